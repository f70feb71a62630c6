/-! ===== X's reader: a fact; tests whole ===== -/
section E7
variable {W' : Int → Int → Prop} {d : Nat} {h h' h1 h2 h0 : AH} {Q : QQ} {x y z k s a b c v n p q r o i N lo hi A B E cap el sp dp capL elL capS elS l' m : Int} {S T T' : Int → Int → Int} {t nw nw' pt of tp : Int → Int} {tl : ALoc} {w u W l cs c1 c2 : List Int} {hm : Bool} {D f : Nat} {its : List (List Int)}
set_option maxHeartbeats 4000000
theorem CT_198 (ht : CTx t n f 0 196 15 48 (-2237) 70 7200) (hf' : CTx t n f 2 198 13 62 4201 50 7000) : CTx t n (f + 1) 2 198 13 62 4201 50 7000 := by
  intro u d k h Q u1 u7 hR e4 e5 hf hQ0 hQ1
  have t11 := r_11 hR.1
  have hx := hR.2.2.2.2.2
  have n16 := hR.2.2.2.2.1.1.2
  have hsk := zsk_le (t := t) hx.2
  have zz := zsk_zsk (t := t) hx.1 hx.2
  have n0 := hR.1.2.1.1
  simp [zrk] at hf
  obtain ⟨e, he⟩ : ∃ e : Nat, d + 13 + 5 * u = e + 13 := ⟨d + 5 * u, by omega⟩
  rw [he]
  rw [wpC_B]; refine ⟨⟨Nat.zero_lt_succ _, Nat.le_of_ble_eq_true rfl⟩, ?_⟩; simp only [lent]
  simp (disch := omega) only [q_198_0, b_198_0, ↓w_iconst, ↓w_bipush, ↓w_aload_n_0, ↓w_aload_n_1, ↓w_astore_n_1, ↓w_dup_i, ↓w_dup_a, ↓w_iadd, ↓w_isub, ↓w_getfield, ↓w_putfield_0, ↓w_if_icmp_ne, ↓w_areturn, ↓w_invokevirtual_0, ↓w_invokevirtual_1, stw_0, stw_i, stw_l, stw_r, ofK0, ofK1, ofK2, lst1, lst2, lkill, kont_none, kont_some, Int.reduceToNat, List.length_cons, List.length_nil, Nat.reduceAdd, Nat.reduceLeDiff, Nat.zero_le, true_and, and_true, if_true, if_false, ne_eq, Int.reduceEq, Int.reduceNeg, not_false_eq_true, not_true_eq_false, ↓reduceIte, Int.reduceLT, Int.reduceLE, and_self, or_true, true_or, or_false, false_or, false_and, and_false, ah_t_w, ah_m_w, ah_n_w, lst1_0, List.tail_cons, w32_i, zbd, lst2_0, t11]
  refine c_174 (d := e + 10) hR (fun h1 hR1 hO1 => ?_)
  have t1 := r_11 hR1.1
  have e21 := hR1.2.2.1
  have hE1 : Ext Wrd h h1 := Ext_off (Off_mono Wr2_d hO1)
  have e41 := Wr2_e hO1
  have n1 := Off_n hO1
  have s1 := Off_s hO1
  by_cases g : zB t n (zsk t n k) = 91
  · -- in brackets
    have hlt := zskn hx.2 (by rw [g]; decide)
    simp (disch := omega) only [b_198_0, ↓w_iconst, ↓w_bipush, ↓w_aload_n_0, ↓w_aload_n_1, ↓w_astore_n_1, ↓w_dup_i, ↓w_dup_a, ↓w_iadd, ↓w_isub, ↓w_getfield, ↓w_putfield_0, ↓w_if_icmp_ne, ↓w_areturn, ↓w_invokevirtual_0, ↓w_invokevirtual_1, stw_0, stw_i, stw_l, stw_r, ofK0, ofK1, ofK2, lst1, lst2, lkill, kont_none, kont_some, Int.reduceToNat, List.length_cons, List.length_nil, Nat.reduceAdd, Nat.reduceLeDiff, Nat.zero_le, true_and, and_true, if_true, if_false, ne_eq, Int.reduceEq, Int.reduceNeg, not_false_eq_true, not_true_eq_false, ↓reduceIte, Int.reduceLT, Int.reduceLE, and_self, or_true, true_or, or_false, false_or, false_and, and_false, ah_t_w, ah_m_w, ah_n_w, lst1_0, List.tail_cons, w32_i, zbd, lst2_0, t1, g, e21]
    refine c_192 (d := e + 10) hR1 (show ah_m h1 11 4 = 7 - (u : Int) by rw [e41.1]; exact e4) (by omega) (fun h2 eo hR2 hO2 hb => ?_) (fun h2 eo hR2 hO2 e42 => ?_)
    · rw [kont_0]
      refine hQ0 h2 _ 4 (zsk t n k) ?_ hR2 (Ext_tr hE1 (Ext_off (Off_mono W12_d hO2))) hb ?_
      · simp only [zxt, if_true, if_false, Int.reduceEq]; rw [if_pos g, if_pos eo]
      · have := Off_n hO2; have := Off_s hO2; unfold CO; omega
    have t2 := r_11 hR2.1
    have e22 := hR2.2.2.1
    have n2 := Off_n hO2
    have s2 := Off_s hO2
    have hE2 : Ext Wrd h h2 := Ext_tr hE1 (Ext_off (Off_mono (fun r i w => by unfold Wrd; omega) hO2))
    have e52 : ah_m h2 11 5 = zctxt false := by rw [hO2.2 _ _ (by omega), e41.2]; exact e5
    simp (disch := omega) only [b_198_0, ↓w_iconst, ↓w_bipush, ↓w_aload_n_0, ↓w_aload_n_1, ↓w_astore_n_1, ↓w_dup_i, ↓w_dup_a, ↓w_iadd, ↓w_isub, ↓w_getfield, ↓w_putfield_0, ↓w_if_icmp_ne, ↓w_areturn, ↓w_invokevirtual_0, ↓w_invokevirtual_1, stw_0, stw_i, stw_l, stw_r, ofK0, ofK1, ofK2, lst1, lst2, lkill, kont_none, kont_some, Int.reduceToNat, List.length_cons, List.length_nil, Nat.reduceAdd, Nat.reduceLeDiff, Nat.zero_le, true_and, and_true, if_true, if_false, ne_eq, Int.reduceEq, Int.reduceNeg, not_false_eq_true, not_true_eq_false, ↓reduceIte, Int.reduceLT, Int.reduceLE, and_self, or_true, true_or, or_false, false_or, false_and, and_false, ah_t_w, ah_m_w, ah_n_w, lst1_0, List.tail_cons, w32_i, zbd, lst2_0, t2, e22]
    have h3 := RX_at hR2 (v := zsk t n k + 1) (by omega)
    generalize hg3 : ah_w h2 11 2 (zsk t n k + 1) = h3' at *
    obtain ⟨hR3, hO3⟩ := h3
    have hE3 : Ext Wrd h h3' := Ext_tr hE2 (Ext_off (Off_mono Wr2_d hO3))
    have e43 := Wr2_e hO3
    have n3 := Off_n hO3
    have s3 := Off_s hO3
    obtain ⟨u', hu⟩ : ∃ u' : Nat, u = u' + 1 := ⟨u - 1, by omega⟩
    have eou : 7 - (u : Int) + 1 = 7 - (u' : Int) := by omega
    refine wpC_deep (ht u' d (zsk t n k + 1) h3' _ (by omega) (by omega) hR3 (by rw [e43.1, e42]; omega) (by rw [e43.2]; exact e52) (by simp [zrk]; omega) (fun h4 k' a b ez hR4 hE4 hb co => ?_) (fun h4 p1 k' k1 c1 ez hR4 hzk hkk hE4 e44 hv1 co => ?_)) (by omega)
    · rw [kont_0]
      refine hQ0 h4 k' a b ?_ hR4 (Ext_tr hE3 hE4) hb ?_
      · simp only [zxt, if_true, if_false, Int.reduceEq]; rw [if_pos g, if_neg eo, eou, ez]
      · unfold CO at co ⊢; omega
    have hk4 := hR4.2.2.2.2.2
    have hs4 := zsk_le (t := t) hk4.2
    have t4 := r_11 hR4.1
    have hE4' : Ext Wrd h h4 := Ext_tr hE3 hE4
    unfold CO at co
    simp (disch := omega) only [b_198_0, ↓w_iconst, ↓w_bipush, ↓w_aload_n_0, ↓w_aload_n_1, ↓w_astore_n_1, ↓w_dup_i, ↓w_dup_a, ↓w_iadd, ↓w_isub, ↓w_getfield, ↓w_putfield_0, ↓w_if_icmp_ne, ↓w_areturn, ↓w_invokevirtual_0, ↓w_invokevirtual_1, stw_0, stw_i, stw_l, stw_r, ofK0, ofK1, ofK2, lst1, lst2, lkill, kont_none, kont_some, Int.reduceToNat, List.length_cons, List.length_nil, Nat.reduceAdd, Nat.reduceLeDiff, Nat.zero_le, true_and, and_true, if_true, if_false, ne_eq, Int.reduceEq, Int.reduceNeg, not_false_eq_true, not_true_eq_false, ↓reduceIte, Int.reduceLT, Int.reduceLE, and_self, or_true, true_or, or_false, false_or, false_and, and_false, ah_t_w, ah_m_w, ah_n_w, lst1_0, List.tail_cons, w32_i, zbd, lst2_0, t4]
    refine c_180 (d := e + 9) hR4 (by decide) (fun h5 k5 e5' hR5 hO5 hb => ?_) (fun h5 k5 e5' hR5 hO5 => ?_)
    · rw [kont_0]
      unfold zsgn1 at e5'
      by_cases g5 : zB t n (zsk t n k') = 93
      · rw [if_pos g5] at e5'; cases e5'
      · rw [if_neg g5] at e5'
        simp only [Sum.inl.injEq, Prod.mk.injEq, true_and] at e5'
        subst e5'
        refine hQ0 h5 _ 1 (zsk t n k') ?_ hR5 (Ext_tr hE4' (Ext_off hO5)) hb ?_
        · simp only [zxt, if_true, if_false, Int.reduceEq]; rw [if_pos g, if_neg eo, eou, ez]; simp only []; rw [← hzk, if_neg g5]
        · have := Off_n hO5; have := Off_s hO5; unfold CO; omega
    · unfold zsgn1 at e5'
      by_cases g5 : ¬ zB t n (zsk t n k') = 93
      · rw [if_neg g5] at e5'; cases e5'
      have g5 := Decidable.not_not.1 g5
      rw [if_pos g5] at e5'
      simp only [Sum.inr.injEq] at e5'
      subst e5'
      have hlt5 := zskn hk4.2 (by rw [g5]; decide)
      have t5 := r_11 hR5.1
      have e45 := Wr2_e hO5
      have e45' : ah_m h5 11 4 = 7 - (u' : Int) := by rw [e45.1]; exact e44
      have n5 := Off_n hO5
      have s5 := Off_s hO5
      have hE5' : Ext Wrd h h5 := Ext_tr hE4' (Ext_off (Off_mono Wr2_d hO5))
      have h6 := RX_fr hR5 (i := 4) (v := 7 - (u' : Int) - 1) (by omega)
      have hE6 : Ext Wrd h5 (ah_w h5 11 4 (7 - (u' : Int) - 1)) := Ext_off (Off_mono (fun r j w => by unfold Wrd; omega) h6.2)
      simp (disch := omega) only [b_198_0, ↓w_iconst, ↓w_bipush, ↓w_aload_n_0, ↓w_aload_n_1, ↓w_astore_n_1, ↓w_dup_i, ↓w_dup_a, ↓w_iadd, ↓w_isub, ↓w_getfield, ↓w_putfield_0, ↓w_if_icmp_ne, ↓w_areturn, ↓w_invokevirtual_0, ↓w_invokevirtual_1, stw_0, stw_i, stw_l, stw_r, ofK0, ofK1, ofK2, lst1, lst2, lkill, kont_none, kont_some, Int.reduceToNat, List.length_cons, List.length_nil, Nat.reduceAdd, Nat.reduceLeDiff, Nat.zero_le, true_and, and_true, if_true, if_false, ne_eq, Int.reduceEq, Int.reduceNeg, not_false_eq_true, not_true_eq_false, ↓reduceIte, Int.reduceLT, Int.reduceLE, and_self, or_true, true_or, or_false, false_or, false_and, and_false, ah_t_w, ah_m_w, ah_n_w, lst1_0, List.tail_cons, w32_i, zbd, lst2_0, t5, e45']
      refine hQ1 _ p1 (zsk t n k' + 1) (zsk t n k1 + 1) c1 ?_ h6.1 (by rw [hzk]) (by omega) (Ext_tr hE5' hE6) (by rw [ah_m_w, if_pos ⟨rfl, rfl⟩]; omega) ?_ ?_
      · simp only [zxt, if_true, if_false, Int.reduceEq]; rw [if_pos g, if_neg eo, eou, ez]; simp only []; rw [← hzk, if_pos g5]
      · refine TSi_deep (TSi_wide (TSi_lo (TSi_lo hv1 (Ext_off (Off_mono Wr2_d hO5))) hE6) ?_) (by omega)
        have := hE4.1
        rw [ah_n_w]; omega
      · unfold CO; rw [ah_n_w, ah_s_w]; omega
  -- not in brackets
  simp (disch := omega) only [b_198_0, q_198_50, b_198_50, ↓w_iconst, ↓w_bipush, ↓w_ldc_w, ↓w_aload_n_0, ↓w_aload_n_1, ↓w_astore_n_1, ↓w_dup_i, ↓w_dup_a, ↓w_iadd, ↓w_isub, ↓w_getfield, ↓w_putfield_0, ↓w_new, ↓w_ifCond_eq, ↓w_if_icmp_ne, ↓w_areturn, ↓w_invokevirtual_0, ↓w_invokespecial_1, ↓w_invokevirtual_1, stw_0, stw_i, stw_l, stw_r, ofK0, ofK1, ofK2, lst1, lst2, lkill, kont_none, kont_some, Int.reduceToNat, List.length_cons, List.length_nil, Nat.reduceAdd, Nat.reduceLeDiff, Nat.zero_le, true_and, and_true, if_true, if_false, ne_eq, Int.reduceEq, Int.reduceNeg, not_false_eq_true, not_true_eq_false, ↓reduceIte, Int.reduceLT, Int.reduceLE, and_self, or_true, true_or, or_false, false_or, false_and, and_false, ah_t_w, ah_m_w, ah_n_w, lst1_0, List.tail_cons, w32_i, zbd, lst2_0, t1, g]
  refine c_185 (d := e + 4) (W := zwnot) hR1 (by decide) (fun h2 gl hR2 hO2 hb => ?_) (fun h2 gw hR2 hE2 e32 co2 => ?_) (fun h2 k2 gl gw hR2 hk2 ek2 hE2 co2 => ?_)
  · rw [kont_0]
    rw [zz] at gl hR2 hb
    refine hQ0 h2 _ 1 (zsk t n k) (zlp_xt gl) hR2 (Ext_tr hE1 (Ext_off (Off_mono Wnm_d hO2))) hb ?_
    have := Off_n hO2; have := Off_s hO2; unfold CO; omega
  · -- not
    rw [zz] at gw hR2 e32
    have hwr := zhw_r hsk.2 gw
    have hwl : (zwnot : List Int).length = 3 := rfl
    rw [hwl] at hwr hR2 co2
    have hE2' : Ext Wrd h h2 := Ext_tr hE1 (Ext_mono Wnm_d hE2)
    have e42 := Wnm_e hR1 hE2
    have t2 := r_11 hR2.1
    unfold CO at co2
    simp (disch := omega) only [b_198_50, ↓w_iconst, ↓w_ldc_w, ↓w_aload_n_0, ↓w_aload_n_1, ↓w_astore_n_1, ↓w_dup_i, ↓w_dup_a, ↓w_isub, ↓w_getfield, ↓w_putfield_0, ↓w_new, ↓w_ifCond_eq, ↓w_areturn, ↓w_invokevirtual_0, ↓w_invokespecial_1, ↓w_invokevirtual_1, stw_0, stw_i, stw_l, stw_r, ofK0, ofK1, ofK2, lst1, lst2, lkill, kont_none, kont_some, Int.reduceToNat, List.length_cons, List.length_nil, Nat.reduceAdd, Nat.reduceLeDiff, Nat.zero_le, true_and, and_true, if_true, if_false, ne_eq, Int.reduceEq, Int.reduceNeg, not_false_eq_true, not_true_eq_false, ↓reduceIte, Int.reduceLT, Int.reduceLE, and_self, or_true, true_or, or_false, false_or, false_and, and_false, ah_t_w, ah_m_w, ah_n_w, lst1_0, List.tail_cons, w32_i, zbd, lst2_0, t2, e32]
    refine c_192 (d := e + 10) hR2 (show ah_m h2 11 4 = 7 - (u : Int) by rw [e42.1, e41.1]; exact e4) (by omega) (fun h3 eo hR3 hO3 hb => ?_) (fun h3 eo hR3 hO3 e43 => ?_)
    · rw [kont_0]
      refine hQ0 h3 _ 4 (zsk t n k) ?_ hR3 (Ext_tr hE2' (Ext_off (Off_mono W12_d hO3))) hb ?_
      · simp only [zxt, if_true, if_false, Int.reduceEq]; rw [if_neg g, if_pos gw, if_pos eo]
      · have := Off_n hO3; have := Off_s hO3; unfold CO; omega
    have t3 := r_11 hR3.1
    have n3 := Off_n hO3
    have s3 := Off_s hO3
    have hE3 : Ext Wrd h h3 := Ext_tr hE2' (Ext_off (Off_mono (fun r i w => by unfold Wrd; omega) hO3))
    have e53 : ah_m h3 11 5 = zctxt false := by rw [hO3.2 _ _ (by omega), e42.2, e41.2]; exact e5
    have nn3 : 1121 ≤ ah_n h3 := hR3.1.2.1.1
    obtain ⟨u', hu⟩ : ∃ u' : Nat, u = u' + 1 := ⟨u - 1, by omega⟩
    have eou : 7 - (u : Int) + 1 = 7 - (u' : Int) := by omega
    have hR6 : RX t n (zsk t n k + 3) (ah_new h3 (22, 0) ((1 : Nat) : Int)) := RX_new hR3 (by omega)
    have hE6 : Ext Wrd h3 (ah_new h3 (22, 0) ((1 : Nat) : Int)) := Ext_new Ext_rfl (by omega)
    have m6 : ∀ i, ah_m (ah_new h3 (22, 0) ((1 : Nat) : Int)) 11 i = ah_m h3 11 i := fun i => by rw [ah_m_new, if_neg (by omega)]
    have tp6 : ah_t (ah_new h3 (22, 0) ((1 : Nat) : Int)) (ah_n h3) = (22, 0) := by rw [ah_t_new, if_pos rfl]
    have n6 : ah_n (ah_new h3 (22, 0) ((1 : Nat) : Int)) = ah_n h3 + 1 := ah_n_new
    have s6 : ah_s (ah_new h3 (22, 0) ((1 : Nat) : Int)) = ah_s h3 + 1 := by rw [ah_s_new]; rfl
    have t6 := r_11 hR6.1
    simp (disch := omega) only [b_198_50, ↓w_iconst, ↓w_ldc_w, ↓w_aload_n_0, ↓w_aload_n_1, ↓w_astore_n_1, ↓w_dup_i, ↓w_dup_a, ↓w_isub, ↓w_getfield, ↓w_putfield_0, ↓w_new, ↓w_ifCond_eq, ↓w_areturn, ↓w_invokevirtual_0, ↓w_invokespecial_1, ↓w_invokevirtual_1, stw_0, stw_i, stw_l, stw_r, ofK0, ofK1, ofK2, lst1, lst2, lkill, kont_none, kont_some, Int.reduceToNat, List.length_cons, List.length_nil, Nat.reduceAdd, Nat.reduceLeDiff, Nat.zero_le, true_and, and_true, if_true, if_false, ne_eq, Int.reduceEq, Int.reduceNeg, not_false_eq_true, not_true_eq_false, ↓reduceIte, Int.reduceLT, Int.reduceLE, and_self, or_true, true_or, or_false, false_or, false_and, and_false, ah_t_w, ah_m_w, ah_n_w, lst1_0, List.tail_cons, w32_i, zbd, lst2_0, t3, t6]
    generalize ah_new h3 (22, 0) ((1 : Nat) : Int) = h6 at *
    refine wpC_deep (hf' u' d (zsk t n k + 3) h6 _ (by omega) (by omega) hR6 (by rw [m6, e43]; omega) (by rw [m6]; exact e53) (by simp [zrk]; omega) (fun h7 k' a b ez7 hR7 hE7 hb co7 => ?_) (fun h7 p2 k' k2 c2 ez7 hR7 hzk hkk hE7 e47 hv2 co7 => ?_)) (by omega)
    · rw [kont_0]
      refine hQ0 h7 _ a b ?_ hR7 (Ext_tr hE3 (Ext_tr hE6 hE7)) hb ?_
      · simp only [zxt, if_true, if_false, Int.reduceEq]; rw [if_neg g, if_pos gw, if_neg eo, eou, ez7]
      · unfold CO at co7 ⊢; omega
    unfold CO at co7
    have n7 := hE7.1
    have tp7 : ah_t h7 (ah_n h3) = (22, 0) := by rw [hE7.2.1 _ (Or.inl (by omega))]; exact tp6
    have tp7' : (ah_t h7 (ah_n h3)).1 = 22 := by rw [tp7]
    have hE8 : Ext (fun r i => r = ah_n h3) h7 (ah_w h7 (ah_n h3) 0 p2) := Ext_w Ext_rfl (Or.inl rfl)
    have hr8 := RX_hi hR7 hE8 (fun r i w => by omega)
    have t8 := r_11 hr8.1.1
    have t7 := r_11 hR7.1
    have e48 := (hr8.2 4).trans e47
    have q0 : ah_m (ah_w h7 (ah_n h3) 0 p2) (ah_n h3) 0 = p2 := by rw [ah_m_w, if_pos ⟨rfl, rfl⟩]
    have n8 : ah_n (ah_w h7 (ah_n h3) 0 p2) = ah_n h7 := rfl
    have s8 : ah_s (ah_w h7 (ah_n h3) 0 p2) = ah_s h7 := rfl
    have tp8 : ah_t (ah_w h7 (ah_n h3) 0 p2) (ah_n h3) = (22, 0) := tp7
    simp (disch := omega) only [b_198_50, ↓w_iconst, ↓w_ldc_w, ↓w_aload_n_0, ↓w_aload_n_1, ↓w_astore_n_1, ↓w_dup_i, ↓w_dup_a, ↓w_isub, ↓w_getfield, ↓w_putfield_0, ↓w_new, ↓w_ifCond_eq, ↓w_areturn, ↓w_invokevirtual_0, ↓w_invokespecial_1, ↓w_invokevirtual_1, stw_0, stw_i, stw_l, stw_r, ofK0, ofK1, ofK2, lst1, lst2, lkill, kont_none, kont_some, Int.reduceToNat, List.length_cons, List.length_nil, Nat.reduceAdd, Nat.reduceLeDiff, Nat.zero_le, true_and, and_true, if_true, if_false, ne_eq, Int.reduceEq, Int.reduceNeg, not_false_eq_true, not_true_eq_false, ↓reduceIte, Int.reduceLT, Int.reduceLE, and_self, or_true, true_or, or_false, false_or, false_and, and_false, ah_t_w, ah_m_w, ah_n_w, lst1_0, List.tail_cons, w32_i, zbd, lst2_0, tp7', c_201 (d := e + 10) tp7' (by omega), t8, t7, e48]
    generalize ah_w h7 (ah_n h3) 0 p2 = h8 at *
    have h9 := RX_fr hr8.1 (i := 4) (v := 7 - (u' : Int) - 1) (by omega)
    have hE7' : Ext Wrd h h7 := Ext_tr hE3 (Ext_tr hE6 hE7)
    have nn2 := hE3.1
    have hE8' : Ext Wrd h h8 := Ext_tr' hE7' hE8 (fun r i w => Or.inr (by omega))
    have v2 : TSi (13 + 4 * u') (ah_n h6) (ah_n h7) h8 p2 c2 := TSi_ext hv2 (fun r r0 r1 => ⟨hE8.2.1 r (Or.inl (by omega)), fun i => hE8.2.2 r i (by omega) (by omega)⟩) hE8.1.1
    have vp := TSi_not (a := ah_n h) (b := ah_n h8) tp8 q0 v2 (by omega) (by omega)
    have hE9 : Ext Wrd h8 (ah_w h8 11 4 (7 - (u' : Int) - 1)) := Ext_off (Off_mono (fun r i w => by unfold Wrd; omega) h9.2)
    refine hQ1 _ (ah_n h3) k' k2 (c2 ++ [12]) ?_ h9.1 hzk (by omega) (Ext_tr hE8' hE9) (by rw [ah_m_w, if_pos ⟨rfl, rfl⟩]; omega) (TSi_deep (TSi_lo vp hE9) (by omega)) ?_
    · simp only [zxt, if_true, if_false, Int.reduceEq]; rw [if_neg g, if_pos gw, if_neg eo, eou, ez7]
    · unfold CO; rw [ah_n_w, ah_s_w]; omega
  -- neither
  rw [zz] at gl gw ek2
  have hE2' : Ext Wrd h h2 := Ext_tr hE1 (Ext_mono Wnm_d hE2)
  have e42 := Wnm_e hR1 hE2
  have t2 := r_11 hR2.1
  unfold CO at co2
  simp (disch := omega) only [b_198_50, q_198_92, b_198_92, ↓w_iconst, ↓w_ldc_w, ↓w_aload_n_0, ↓w_aload_n_1, ↓w_astore_n_1, ↓w_dup_i, ↓w_dup_a, ↓w_isub, ↓w_getfield, ↓w_putfield_0, ↓w_new, ↓w_ifCond_eq, ↓w_areturn, ↓w_invokespecial_0, ↓w_invokevirtual_0, ↓w_invokespecial_1, ↓w_invokevirtual_1, stw_0, stw_i, stw_l, stw_r, ofK0, ofK1, ofK2, lst1, lst2, lkill, kont_none, kont_some, Int.reduceToNat, List.length_cons, List.length_nil, Nat.reduceAdd, Nat.reduceLeDiff, Nat.zero_le, true_and, and_true, if_true, if_false, ne_eq, Int.reduceEq, Int.reduceNeg, not_false_eq_true, not_true_eq_false, ↓reduceIte, Int.reduceLT, Int.reduceLE, and_self, or_true, true_or, or_false, false_or, false_and, and_false, ah_t_w, ah_m_w, ah_n_w, lst1_0, List.tail_cons, w32_i, zbd, lst2_0, t2]
  refine c_185 (d := e + 4) (W := zwall) hR2 (by decide) (fun h3 gl3 hR3 hO3 hb => ?_) (fun h3 gw3 hR3 hE3 e33 co3 => ?_) (fun h3 k3 gl3 gw3 hR3 hk3 ek3 hE3 co3 => ?_)
  · rw [ek2, gl] at gl3; cases gl3
  · -- all
    rw [ek2] at gw3 hR3
    have hwr := zhw_r hsk.2 gw3
    have hwl : (zwall : List Int).length = 3 := rfl
    rw [hwl] at hwr hR3 co3
    have hE3' : Ext Wrd h h3 := Ext_tr hE2' (Ext_mono Wnm_d hE3)
    have e43 := Wnm_e hR2 hE3
    have nn3 : 1121 ≤ ah_n h3 := hR3.1.2.1.1
    unfold CO at co3
    have tp4 : ah_t (ah_new h3 (23, 0) ((0 : Nat) : Int)) (ah_n h3) = (23, 0) := by rw [ah_t_new, if_pos rfl]
    have tp4' : (ah_t (ah_new h3 (23, 0) ((0 : Nat) : Int)) (ah_n h3)).1 = 23 := by rw [tp4]
    have hE4 : Ext Wrd h3 (ah_new h3 (23, 0) ((0 : Nat) : Int)) := Ext_new Ext_rfl (by omega)
    have hr4 := RX_hi (W' := WN) hR3 (h' := ah_new h3 (23, 0) ((0 : Nat) : Int)) (Ext_new Ext_rfl (by omega)) (fun r i w => w.elim)
    simp (disch := omega) only [b_198_92, ↓w_ldc_w, ↓w_aload_n_0, ↓w_dup_i, ↓w_dup_a, ↓w_new, ↓w_ifCond_eq, ↓w_areturn, ↓w_invokespecial_0, ↓w_invokevirtual_1, stw_0, stw_i, stw_l, stw_r, ofK0, ofK1, ofK2, lst1, lst2, lkill, kont_none, kont_some, Int.reduceToNat, List.length_cons, List.length_nil, Nat.reduceAdd, Nat.reduceLeDiff, Nat.zero_le, true_and, and_true, if_true, if_false, ne_eq, Int.reduceEq, Int.reduceNeg, not_false_eq_true, not_true_eq_false, ↓reduceIte, Int.reduceLT, Int.reduceLE, and_self, or_true, true_or, or_false, false_or, false_and, and_false, ah_t_w, ah_m_w, ah_n_w, lst1_0, List.tail_cons, w32_i, zbd, lst2_0, tp4', c_203 (d := e + 10) tp4' (by omega)]
    refine hQ1 _ (ah_n h3) (zsk t n k + 3) (zsk t n k + 3) [13] ?_ hr4.1 rfl (by omega) (Ext_tr hE3' hE4) (by rw [hr4.2, e43.1, e42.1, e41.1]; exact e4) ?_ ?_
    · simp only [zxt, if_true, if_false, Int.reduceEq]; rw [if_neg g, if_neg (by rw [gw]; decide), if_pos gw3]
    · exact TSi_all tp4 (by have := hE3'.1; rw [ah_n_new]; omega) (by omega)
    · unfold CO; rw [ah_n_new, ah_s_new]; omega
  -- two values
  rw [ek2] at gw3 ek3
  have hE3' : Ext Wrd h h3 := Ext_tr hE2' (Ext_mono Wnm_d hE3)
  have e43 := Wnm_e hR2 hE3
  have t3 := r_11 hR3.1
  have hk3' := hR3.2.2.2.2.2
  unfold CO at co3
  have ez0 : zxt t n (f + 1) 2 k (7 - (u : Int)) = match zex false t n (zF n) 0 k3 (7 - (u : Int)) with
      | .inl e => .inl e
      | .inr (k1, c1) => if zB t n (zsk t n k1) = 60 ∨ zB t n (zsk t n k1) = 62 ∨ zB t n (zsk t n k1) = 61 then (match zex false t n (zF n) 0 (zsk t n k1 + 1) (7 - (u : Int)) with
          | .inl e => .inl e
          | .inr (k2, c2) => .inr (k2, c1 ++ (c2 ++ [if zB t n (zsk t n k1) = 60 then 7 else if zB t n (zsk t n k1) = 62 then 8 else 9])))
        else .inl (1, zsk t n k1) := by
    simp only [zxt, if_true, if_false, Int.reduceEq]; rw [if_neg g, if_neg (by rw [gw]; decide), if_neg (by rw [gw3]; decide), zex_se (show zsk t n k = zsk t n k3 by rw [ek3])]
    cases zex false t n (zF n) 0 k3 (7 - (u : Int)) with
    | inl a => rfl
    | inr a => cases zex false t n (zF n) 0 (zsk t n a.1 + 1) (7 - (u : Int)) <;> rfl
  have hs := (CE_all (hm := false) (t := t) (n := n) (zF n)).1
  have e5h : ah_m h3 11 5 = zctxt false := by rw [e43.2, e42.2, e41.2]; exact e5
  have n16' : 0 ≤ n := by omega
  have hzF : 6 * n + 10 = (zF n : Int) := by unfold zF; omega
  simp (disch := omega) only [b_198_92, q_198_110, b_198_110, ↓w_iconst, ↓w_bipush, ↓w_ldc_w, ↓w_aload_n_0, ↓w_iload_n_2, ↓w_istore_n_2, ↓w_astore_n_1, ↓w_dup_i, ↓w_dup_a, ↓w_getfield, ↓w_new, ↓w_ifCond_eq, ↓w_if_icmp_eq, ↓w_areturn, ↓w_athrow, ↓w_invokespecial_0, ↓w_invokevirtual_0, ↓w_invokevirtual_1, ↓w_invokevirtual_2, stw_0, stw_i, stw_l, stw_r, ofK0, ofK1, ofK2, lst1, lst2, lkill, kont_none, kont_some, Int.reduceToNat, List.length_cons, List.length_nil, Nat.reduceAdd, Nat.reduceLeDiff, Nat.zero_le, true_and, and_true, if_true, if_false, ne_eq, Int.reduceEq, Int.reduceNeg, not_false_eq_true, not_true_eq_false, ↓reduceIte, Int.reduceLT, Int.reduceLE, and_self, or_true, true_or, or_false, false_or, false_and, and_false, ah_t_w, ah_m_w, ah_n_w, lst1_0, List.tail_cons, w32_i, zbd, lst2_0, t3]
  refine wpC_deep (hs u d k3 h3 _ u1 u7 hR3 (by rw [e43.1, e42.1, e41.1]; exact e4) e5h (by simp [zrk]; omega) (fun h4 k' a b ez hR4 hE4 hb co => ?_) (fun h4 p1 k1 c1 ez hR4 hE4 e44 hv1 co => ?_)) (by omega)
  · rw [kont_0]
    refine hQ0 h4 k' a b (by rw [ez0, ez]) hR4 (Ext_tr hE3' hE4) hb ?_
    unfold CO at co ⊢; omega
  rw [ez] at ez0
  simp only [] at ez0
  have pr := (zex_pr (hm := false) (t := t) (n := n) (zF n) 0 k3 (7 - (u : Int)) (by omega) (by omega) (by omega) (by omega)).1 k1 c1 ez
  have hs1 := zsk_le (t := t) pr.2.1
  have t4 := r_11 hR4.1
  have hE4' : Ext Wrd h h4 := Ext_tr hE3' hE4
  unfold CO at co
  simp (disch := omega) only [b_198_110, ↓w_iconst, ↓w_bipush, ↓w_aload_n_0, ↓w_iload_n_2, ↓w_istore_n_2, ↓w_astore_n_1, ↓w_getfield, ↓w_if_icmp_eq, ↓w_athrow, ↓w_invokevirtual_0, ↓w_invokevirtual_2, stw_0, stw_i, stw_l, stw_r, ofK0, ofK1, ofK2, lst1, lst2, lkill, kont_none, kont_some, Int.reduceToNat, List.length_cons, List.length_nil, Nat.reduceAdd, Nat.reduceLeDiff, Nat.zero_le, true_and, and_true, if_true, if_false, ne_eq, Int.reduceEq, Int.reduceNeg, not_false_eq_true, not_true_eq_false, ↓reduceIte, Int.reduceLT, Int.reduceLE, and_self, or_true, true_or, or_false, false_or, false_and, and_false, ah_t_w, ah_m_w, ah_n_w, lst1_0, List.tail_cons, w32_i, zbd, lst2_0, t4]
  refine c_174 (d := e + 10) hR4 (fun h5 hR5 hO5 => ?_)
  have t5 := r_11 hR5.1
  have e25 := hR5.2.2.1
  have e45 := Wr2_e hO5
  have n5 := Off_n hO5
  have s5 := Off_s hO5
  have hE5' : Ext Wrd h h5 := Ext_tr hE4' (Ext_off (Off_mono Wr2_d hO5))
  by_cases g5 : ¬ (zB t n (zsk t n k1) = 60 ∨ zB t n (zsk t n k1) = 62 ∨ zB t n (zsk t n k1) = 61)
  · rw [if_neg g5] at ez0
    have ga : ¬ zB t n (zsk t n k1) = 60 := by omega
    have gb : ¬ zB t n (zsk t n k1) = 62 := by omega
    have gc : ¬ zB t n (zsk t n k1) = 61 := by omega
    simp (disch := omega) only [b_198_110, ↓w_iconst, ↓w_bipush, ↓w_aload_n_0, ↓w_iload_n_2, ↓w_istore_n_2, ↓w_astore_n_1, ↓w_getfield, ↓w_if_icmp_eq, ↓w_athrow, ↓w_invokevirtual_0, ↓w_invokevirtual_2, stw_0, stw_i, stw_l, stw_r, ofK0, ofK1, ofK2, lst1, lst2, lkill, kont_none, kont_some, Int.reduceToNat, List.length_cons, List.length_nil, Nat.reduceAdd, Nat.reduceLeDiff, Nat.zero_le, true_and, and_true, if_true, if_false, ne_eq, Int.reduceEq, Int.reduceNeg, not_false_eq_true, not_true_eq_false, ↓reduceIte, Int.reduceLT, Int.reduceLE, and_self, or_true, true_or, or_false, false_or, false_and, and_false, ah_t_w, ah_m_w, ah_n_w, lst1_0, List.tail_cons, w32_i, zbd, lst2_0, t5, e25, ga, gb, gc]
    refine thrw (d := e + 11) hR5 (fun h6 hR6 hO6 hb => hQ0 h6 _ _ _ ez0 hR6 (Ext_tr hE5' (Ext_off (Off_mono W12_d hO6))) hb ?_)
    have := Off_n hO6; have := Off_s hO6; unfold CO; omega
  have g5 := Decidable.not_not.1 g5
  rw [if_pos g5] at ez0
  have hlt5 := zskn (t := t) pr.2.1 (by omega)
  have key : wpB (e + 12) 198 148 [some (.inr (.inr 11)), some (.inr (.inr p1)), some (.inl (zB t n (zsk t n k1)))] [] h5 Q := by
    have h6 := RX_at hR5 (v := zsk t n k1 + 1) (by omega)
    simp (disch := omega) only [q_198_148, b_198_148, ↓w_iconst, ↓w_aload_n_0, ↓w_aload_n_1, ↓w_iload_n_2, ↓w_dup_i, ↓w_dup_a, ↓w_iadd, ↓w_getfield, ↓w_putfield_0, ↓w_new, ↓w_areturn, ↓w_invokevirtual_0, ↓w_invokespecial_3, stw_0, stw_i, stw_l, stw_r, ofK0, ofK1, ofK2, lst1, lst2, lkill, kont_none, kont_some, Int.reduceToNat, List.length_cons, List.length_nil, Nat.reduceAdd, Nat.reduceLeDiff, Nat.zero_le, true_and, and_true, if_true, if_false, ne_eq, Int.reduceEq, Int.reduceNeg, not_false_eq_true, not_true_eq_false, ↓reduceIte, Int.reduceLT, Int.reduceLE, and_self, or_true, true_or, or_false, false_or, false_and, and_false, ah_t_w, ah_m_w, ah_n_w, lst1_0, List.tail_cons, w32_i, zbd, lst2_0, t5, e25]
    generalize hg6 : ah_w h5 11 2 (zsk t n k1 + 1) = h6' at *
    obtain ⟨hR6, hO6⟩ := h6
    have e46 := Wr2_e hO6
    have n6 := Off_n hO6
    have s6 := Off_s hO6
    have nn6 : 1121 ≤ ah_n h6' := hR6.1.2.1.1
    have hE6' : Ext Wrd h h6' := Ext_tr hE5' (Ext_off (Off_mono Wr2_d hO6))
    have hR7 : RX t n (zsk t n k1 + 1) (ah_new h6' (24, 0) ((3 : Nat) : Int)) := RX_new hR6 (by omega)
    have hE7 : Ext Wrd h6' (ah_new h6' (24, 0) ((3 : Nat) : Int)) := Ext_new Ext_rfl (by omega)
    have m7 : ∀ i, ah_m (ah_new h6' (24, 0) ((3 : Nat) : Int)) 11 i = ah_m h6' 11 i := fun i => by rw [ah_m_new, if_neg (by omega)]
    have tp7 : ah_t (ah_new h6' (24, 0) ((3 : Nat) : Int)) (ah_n h6') = (24, 0) := by rw [ah_t_new, if_pos rfl]
    have n7 : ah_n (ah_new h6' (24, 0) ((3 : Nat) : Int)) = ah_n h6' + 1 := ah_n_new
    have s7 : ah_s (ah_new h6' (24, 0) ((3 : Nat) : Int)) = ah_s h6' + 3 := by rw [ah_s_new]; rfl
    have t7 := r_11 hR7.1
    rw [← n6]
    generalize ah_new h6' (24, 0) ((3 : Nat) : Int) = h7 at *
    simp (disch := omega) only [b_198_148, ↓w_iconst, ↓w_aload_n_0, ↓w_aload_n_1, ↓w_iload_n_2, ↓w_dup_i, ↓w_dup_a, ↓w_iadd, ↓w_getfield, ↓w_putfield_0, ↓w_new, ↓w_areturn, ↓w_invokevirtual_0, ↓w_invokespecial_3, stw_0, stw_i, stw_l, stw_r, ofK0, ofK1, ofK2, lst1, lst2, lkill, kont_none, kont_some, Int.reduceToNat, List.length_cons, List.length_nil, Nat.reduceAdd, Nat.reduceLeDiff, Nat.zero_le, true_and, and_true, if_true, if_false, ne_eq, Int.reduceEq, Int.reduceNeg, not_false_eq_true, not_true_eq_false, ↓reduceIte, Int.reduceLT, Int.reduceLE, and_self, or_true, true_or, or_false, false_or, false_and, and_false, ah_t_w, ah_m_w, ah_n_w, lst1_0, List.tail_cons, w32_i, zbd, lst2_0, t7]
    refine wpC_deep (hs u d (zsk t n k1 + 1) h7 _ u1 u7 hR7 (by rw [m7, e46.1, e45.1]; exact e44) (by rw [m7, e46.2, e45.2, Wrd_e hR3 hE4]; exact e5h) (by simp [zrk]; omega) (fun h8 k' a b ez8 hR8 hE8 hb co8 => ?_) (fun h8 p2 k2 c2 ez8 hR8 hE8 e48 hv2 co8 => ?_)) (by omega)
    · rw [kont_0]
      rw [ez8] at ez0
      refine hQ0 h8 k' a b ez0 hR8 (Ext_tr hE6' (Ext_tr hE7 hE8)) hb ?_
      unfold CO at co8 ⊢; omega
    rw [ez8] at ez0
    simp only [] at ez0
    unfold CO at co8
    have n8 := hE8.1
    have pr8 := (zex_pr (hm := false) (t := t) (n := n) (zF n) 0 (zsk t n k1 + 1) (7 - (u : Int)) (by omega) (by omega) (by omega) (by omega)).1 k2 c2 ez8
    have tp8 : ah_t h8 (ah_n h6') = (24, 0) := by rw [hE8.2.1 _ (Or.inl (by omega))]; exact tp7
    have tp8' : (ah_t h8 (ah_n h6')).1 = 24 := by rw [tp8]
    simp (disch := omega) only [b_198_148, ↓w_iconst, ↓w_aload_n_0, ↓w_aload_n_1, ↓w_iload_n_2, ↓w_dup_i, ↓w_dup_a, ↓w_iadd, ↓w_getfield, ↓w_putfield_0, ↓w_new, ↓w_areturn, ↓w_invokevirtual_0, ↓w_invokespecial_3, stw_0, stw_i, stw_l, stw_r, ofK0, ofK1, ofK2, lst1, lst2, lkill, kont_none, kont_some, Int.reduceToNat, List.length_cons, List.length_nil, Nat.reduceAdd, Nat.reduceLeDiff, Nat.zero_le, true_and, and_true, if_true, if_false, ne_eq, Int.reduceEq, Int.reduceNeg, not_false_eq_true, not_true_eq_false, ↓reduceIte, Int.reduceLT, Int.reduceLE, and_self, or_true, true_or, or_false, false_or, false_and, and_false, ah_t_w, ah_m_w, ah_n_w, lst1_0, List.tail_cons, w32_i, zbd, lst2_0, tp8', c_205 (d := e + 10) tp8' (by omega)]
    have hE9 : Ext (fun r i => r = ah_n h6') h8 (ah_w (ah_w (ah_w h8 (ah_n h6') 0 p1) (ah_n h6') 2 (zB t n (zsk t n k1))) (ah_n h6') 1 p2) := Ext_w (Ext_w (Ext_w Ext_rfl (Or.inl rfl)) (Or.inl rfl)) (Or.inl rfl)
    have q0 : ah_m (ah_w (ah_w (ah_w h8 (ah_n h6') 0 p1) (ah_n h6') 2 (zB t n (zsk t n k1))) (ah_n h6') 1 p2) (ah_n h6') 0 = p1 := by rw [ah_m_w, if_neg (by omega), ah_m_w, if_neg (by omega), ah_m_w, if_pos ⟨rfl, rfl⟩]
    have q2 : ah_m (ah_w (ah_w (ah_w h8 (ah_n h6') 0 p1) (ah_n h6') 2 (zB t n (zsk t n k1))) (ah_n h6') 1 p2) (ah_n h6') 2 = zB t n (zsk t n k1) := by rw [ah_m_w, if_neg (by omega), ah_m_w, if_pos ⟨rfl, rfl⟩]
    have q1 : ah_m (ah_w (ah_w (ah_w h8 (ah_n h6') 0 p1) (ah_n h6') 2 (zB t n (zsk t n k1))) (ah_n h6') 1 p2) (ah_n h6') 1 = p2 := by rw [ah_m_w, if_pos ⟨rfl, rfl⟩]
    have n9 : ah_n (ah_w (ah_w (ah_w h8 (ah_n h6') 0 p1) (ah_n h6') 2 (zB t n (zsk t n k1))) (ah_n h6') 1 p2) = ah_n h8 := rfl
    have s9 : ah_s (ah_w (ah_w (ah_w h8 (ah_n h6') 0 p1) (ah_n h6') 2 (zB t n (zsk t n k1))) (ah_n h6') 1 p2) = ah_s h8 := rfl
    have tp9 : ah_t (ah_w (ah_w (ah_w h8 (ah_n h6') 0 p1) (ah_n h6') 2 (zB t n (zsk t n k1))) (ah_n h6') 1 p2) (ah_n h6') = (24, 0) := tp8
    generalize ah_w (ah_w (ah_w h8 (ah_n h6') 0 p1) (ah_n h6') 2 (zB t n (zsk t n k1))) (ah_n h6') 1 p2 = h9 at *
    have hr9 := RX_hi hR8 hE9 (fun r i w => by omega)
    have hE8' : Ext Wrd h h8 := Ext_tr hE6' (Ext_tr hE7 hE8)
    have hE9' : Ext Wrd h h9 := Ext_tr' hE8' hE9 (fun r i w => Or.inr (by have := hE6'.1; omega))
    have nn4 := hE4.1
    have nn3 := hE3'.1
    have v1 : VSi false (12 + 4 * u) (ah_n h3) (ah_n h4) h9 p1 c1 := by
      have := VSi_lo hv1 (Ext_tr (Ext_tr (Ext_off (Off_mono Wr2_d hO5)) (Ext_off (Off_mono Wr2_d hO6))) (Ext_tr hE7 hE8))
      exact VSi_ext this (fun r r0 r1 => ⟨hE9.2.1 r (Or.inl (by omega)), fun i => hE9.2.2 r i (by omega) (by omega)⟩) hE9.1.1
    have v2 : VSi false (12 + 4 * u) (ah_n h7) (ah_n h8) h9 p2 c2 := VSi_ext hv2 (fun r r0 r1 => ⟨hE9.2.1 r (Or.inl (by omega)), fun i => hE9.2.2 r i (by omega) (by omega)⟩) hE9.1.1
    have vp := TSi_than (a := ah_n h) (b := ah_n h9) tp9 q0 q1 q2 g5 v1 v2 (by omega) (by omega)
    refine hQ1 h9 (ah_n h6') k2 k2 _ ez0 hr9.1 rfl (by omega) hE9' ((hr9.2 4).trans e48) (TSi_deep vp (by omega)) ?_
    unfold CO; omega
  rcases g5 with q | q | q
  · rw [q] at key
    simp (disch := omega) only [b_198_110, ↓w_iconst, ↓w_bipush, ↓w_aload_n_0, ↓w_iload_n_2, ↓w_istore_n_2, ↓w_astore_n_1, ↓w_getfield, ↓w_if_icmp_eq, ↓w_athrow, ↓w_invokevirtual_0, ↓w_invokevirtual_2, stw_0, stw_i, stw_l, stw_r, ofK0, ofK1, ofK2, lst1, lst2, lkill, kont_none, kont_some, Int.reduceToNat, List.length_cons, List.length_nil, Nat.reduceAdd, Nat.reduceLeDiff, Nat.zero_le, true_and, and_true, if_true, if_false, ne_eq, Int.reduceEq, Int.reduceNeg, not_false_eq_true, not_true_eq_false, ↓reduceIte, Int.reduceLT, Int.reduceLE, and_self, or_true, true_or, or_false, false_or, false_and, and_false, ah_t_w, ah_m_w, ah_n_w, lst1_0, List.tail_cons, w32_i, zbd, lst2_0, q]
    exact key
  · rw [q] at key
    simp (disch := omega) only [b_198_110, ↓w_iconst, ↓w_bipush, ↓w_aload_n_0, ↓w_iload_n_2, ↓w_istore_n_2, ↓w_astore_n_1, ↓w_getfield, ↓w_if_icmp_eq, ↓w_athrow, ↓w_invokevirtual_0, ↓w_invokevirtual_2, stw_0, stw_i, stw_l, stw_r, ofK0, ofK1, ofK2, lst1, lst2, lkill, kont_none, kont_some, Int.reduceToNat, List.length_cons, List.length_nil, Nat.reduceAdd, Nat.reduceLeDiff, Nat.zero_le, true_and, and_true, if_true, if_false, ne_eq, Int.reduceEq, Int.reduceNeg, not_false_eq_true, not_true_eq_false, ↓reduceIte, Int.reduceLT, Int.reduceLE, and_self, or_true, true_or, or_false, false_or, false_and, and_false, ah_t_w, ah_m_w, ah_n_w, lst1_0, List.tail_cons, w32_i, zbd, lst2_0, q]
    exact key
  · rw [q] at key
    simp (disch := omega) only [b_198_110, ↓w_iconst, ↓w_bipush, ↓w_aload_n_0, ↓w_iload_n_2, ↓w_istore_n_2, ↓w_astore_n_1, ↓w_getfield, ↓w_if_icmp_eq, ↓w_athrow, ↓w_invokevirtual_0, ↓w_invokevirtual_2, stw_0, stw_i, stw_l, stw_r, ofK0, ofK1, ofK2, lst1, lst2, lkill, kont_none, kont_some, Int.reduceToNat, List.length_cons, List.length_nil, Nat.reduceAdd, Nat.reduceLeDiff, Nat.zero_le, true_and, and_true, if_true, if_false, ne_eq, Int.reduceEq, Int.reduceNeg, not_false_eq_true, not_true_eq_false, ↓reduceIte, Int.reduceLT, Int.reduceLE, and_self, or_true, true_or, or_false, false_or, false_and, and_false, ah_t_w, ah_m_w, ah_n_w, lst1_0, List.tail_cons, w32_i, zbd, lst2_0, q]
    exact key
/-- tests whole -/
theorem CT_all : ∀ f : Nat, CTx t n f 0 196 15 48 (-2237) 70 7200 ∧ CTx t n f 1 197 14 55 982 60 7100 ∧ CTx t n f 2 198 13 62 4201 50 7000 ∧ LTx t n f 3 196 14 0 55 982 70 7200 ∧ LTx t n f 4 197 13 1 62 4201 60 7100 := by
  intro f
  induction f with
  | zero =>
    have z : ∀ {md : Int}, 1 ≤ zrk md := by intro md; unfold zrk; split; omega; split <;> omega
    refine ⟨?_, ?_, ?_, ?_, ?_⟩
    · intro u d k h Q _ _ hR _ _ hf; exact absurd hf (by have := hR.2.2.2.2.2; have := @z 0; omega)
    · intro u d k h Q _ _ hR _ _ hf; exact absurd hf (by have := hR.2.2.2.2.2; have := @z 1; omega)
    · intro u d k h Q _ _ hR _ _ hf; exact absurd hf (by have := hR.2.2.2.2.2; have := @z 2; omega)
    · intro u d k0 x h0 h p its cap el Q _ _ hR _ _ _ _ _ hf; exact absurd hf (by have := hR.2.2.2.2.2; have := @z 3; omega)
    · intro u d k0 x h0 h p its cap el Q _ _ hR _ _ _ _ _ hf; exact absurd hf (by have := hR.2.2.2.2.2; have := @z 4; omega)
  | succ f ih =>
    obtain ⟨i0, i1, i2, i3, i4⟩ := ih
    exact ⟨CT_196 i1 i3, CT_197 i2 i4, CT_198 i0 i2, LT_196 i1 i3, LT_197 i2 i4⟩
end E7
