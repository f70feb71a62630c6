/-! ===== X: ahead (later, crop, spare, deeper), what was seen ===== -/
section Z5
variable {W : Int → Int → Prop} {d : Nat} {h h' h1 h0 : AH} {Q : QQ} {x y z m k s l w a b v n p r o i f D0 D1 : Int} {S T T' : Int → Int → Int} {t nw nw' pt of tp sr : Int → Int} {tl : ALoc} {c : Int × Int × Int}
set_option maxHeartbeats 4000000
theorem is_1 (g : y ≤ x ∧ x ≤ z) : wpC (d + 1) 92 [.inl x, .inl y, .inl z] h Q ↔ Q (.inl (some (.inl 1))) h := by rw [c_92, if_pos g]
theorem is_0 (g : ¬ (y ≤ x ∧ x ≤ z)) : wpC (d + 1) 92 [.inl x, .inl y, .inl z] h Q ↔ Q (.inl (some (.inl 0))) h := by rw [c_92, if_neg g]
theorem ahd_1 (hA : XA T nw h) (hF : FV nw) (hn : -2147483648 ≤ n ∧ n < 2147483648) (ha : 0 ≤ a) (hb : b ≤ 1000) (g : 0 < T 1074 4 ∧ (a ≤ n ∧ n ≤ b) ∧ nw 0 + n ≤ 999) : wpC (d + 2) 117 [.inr (.inr 1), .inl n, .inl a, .inl b] h Q ↔ Q (.inl (some (.inl 1))) h := by rw [c_117 hA hF hn ha hb, if_pos g]
theorem ahd_0 (hA : XA T nw h) (hF : FV nw) (hn : -2147483648 ≤ n ∧ n < 2147483648) (ha : 0 ≤ a) (hb : b ≤ 1000) (g : ¬ (0 < T 1074 4 ∧ (a ≤ n ∧ n ≤ b) ∧ nw 0 + n ≤ 999)) : wpC (d + 2) 117 [.inr (.inr 1), .inl n, .inl a, .inl b] h Q ↔ Q (.inl (some (.inl 0))) h := by rw [c_117 hA hF hn ha hb, if_neg g]
theorem fld_1 (hK : XG T h) (g : 0 ≤ m ∧ m < T 1072 5) : wpC (d + 3) 104 [.inr (.inr 1), .inl m] h Q ↔ Q (.inl (some (.inl 1))) h := by rw [c_104 hK, if_pos g]
theorem fld_0 (hK : XG T h) (g : ¬ (0 ≤ m ∧ m < T 1072 5)) : wpC (d + 3) 104 [.inr (.inr 1), .inl m] h Q ↔ Q (.inl (some (.inl 0))) h := by rw [c_104 hK, if_neg g]
/-- days on a copy -/
theorem cpd (hA : XA T nw h) (hX : NX T nw) (hF : FV nw) (hL : LV T) (n0 : 0 ≤ n) (hd : nw 0 + n ≤ 999) (hQ : ∀ h', XA T nw h' → XS T (zds T 0 (T 1074 6) (T 1074 7) n.toNat nw) 70 h' → NX T (zds T 0 (T 1074 6) (T 1074 7) n.toNat nw) → FV (zds T 0 (T 1074 6) (T 1074 7) n.toNat nw) → NE (zds T 1 (T 1074 6) (T 1074 7) n.toNat nw) (zds T 0 (T 1074 6) (T 1074 7) n.toNat nw) → Off Wth h h' → Q (.inl (some (.inr (.inr 70)))) h') (hS70 : XS T nw 70 h) : wpC (d + 45) 228 [.inr (.inr 70), .inl n] h Q := by
  have d0 := hF.1
  refine c_228 hA.1 hS70 hX hA.2.2.1 hF hL n0 (by omega) (by omega) (fun h2 hK2 hS2 hH2 hX2 hF2 hO2 => ?_)
  have hO2' := Off_mono Wth_dy hO2
  exact hQ h2 (XA_th hA hF.2.2.2 hO2' hS2.2.2.2.2.2.2) hS2 hX2 hF2 (NE_ds hA.1.2.2.2.1 hA.1.2.2.2.2.1 _ _ _ NE_rfl hF hX (by omega)) hO2'
theorem c_116 (hA : XA T nw h) (hX : NX T nw) (hF : FV nw) (hL : 0 < T 1074 4 → LV T) (hn : -2147483648 ≤ n ∧ n < 2147483648) (hQ : ∀ h', XA T nw h' → Off Wth h h' → Q (.inl (some (.inl (if (0 < T 1074 4 ∧ (0 ≤ n ∧ n ≤ 20) ∧ nw 0 + n ≤ 999) ∧ (0 ≤ w ∧ w ≤ 3) then zlat T (zds T 1 (T 1074 6) (T 1074 7) n.toNat nw) w else -1)))) h') : wpC (d + 46) 116 [.inr (.inr 1), .inl n, .inl w] h Q := by
  have hK := hA.1
  have hS := hA.2.1
  have n8 := hK.2.2.2.1; have n6 := hK.2.2.2.2.1
  rw [wpC_B]; refine ⟨⟨Nat.zero_lt_succ _, Nat.le_of_ble_eq_true rfl⟩, ?_⟩; simp only [lent]
  by_cases g : 0 < T 1074 4 ∧ (0 ≤ n ∧ n ≤ 20) ∧ nw 0 + n ≤ 999
  · by_cases gw : 0 ≤ w ∧ w ≤ 3
    · rw [if_pos ⟨g, gw⟩] at hQ
      have tS := sz_t hK is70
      simp (disch := omega) only [q_116_0, b_116_0, q_116_22, b_116_22, ↓w_iconst, ↓w_bipush, ↓w_aload_n_0, ↓w_iload_n_1, ↓w_iload_n_2, ↓w_pop_i, ↓w_pop_a, ↓w_getfield, ↓w_nop, ↓w_goto, ↓w_ifCond_eq, ↓w_ifCond_ne, ↓w_if_icmp_ge, ↓w_invokevirtual_1, ↓w_invokestatic_3, ↓w_invokevirtual_3, stw_0, stw_i, stw_l, stw_r, ofK0, ofK1, ofK2, lst1, lst2, lkill, kont_none, kont_some, Int.reduceToNat, List.length_cons, List.length_nil, Nat.reduceAdd, Nat.reduceLeDiff, Nat.zero_le, true_and, and_true, if_true, if_false, ne_eq, Int.reduceEq, Int.reduceNeg, not_false_eq_true, not_true_eq_false, ↓reduceIte, Int.reduceLT, Int.reduceLE, and_self, or_true, true_or, or_false, false_or, false_and, and_false, ah_t_w, ah_m_w, ah_n_w, lst1_0, List.tail_cons, w32_i, zbd, lst2_0, xt_1a hK, xf_1_12 hK, xf_1_13 hK, s_t hK hS, ahd_1 hA hF hn (Int.le_refl 0) (by decide) g, is_1 gw, tS]
      refine cpy (d := d + 44) hA hF (fun h1 hA1 hS1 hO1 => ?_)
      have hO1' := Off_mono Wth_cp hO1
      have tS1 := sz_t hA1.1 is70
      simp (disch := omega) only [b_116_22, ↓w_iconst, ↓w_aload_n_0, ↓w_iload_n_1, ↓w_iload_n_2, ↓w_pop_i, ↓w_pop_a, ↓w_getfield, ↓w_goto, ↓w_if_icmp_ge, ↓w_invokevirtual_1, stw_0, stw_i, stw_l, stw_r, ofK0, ofK1, ofK2, lst1, lst2, lkill, kont_none, kont_some, Int.reduceToNat, List.length_cons, List.length_nil, Nat.reduceAdd, Nat.reduceLeDiff, Nat.zero_le, true_and, and_true, if_true, if_false, ne_eq, Int.reduceEq, Int.reduceNeg, not_false_eq_true, not_true_eq_false, ↓reduceIte, Int.reduceLT, Int.reduceLE, and_self, or_true, true_or, or_false, false_or, false_and, and_false, ah_t_w, ah_m_w, ah_n_w, lst1_0, List.tail_cons, w32_i, zbd, lst2_0, tS1]
      refine cpd (d := d) hA1 hX hF (hL g.1) g.2.1.1 g.2.2 (fun h2 hA2 hS2 hX2 hF2 hE hO2 => ?_) hS1
      have hO2' := Off_tr hO1' hO2
      have hQ2 := hQ h2 hA2 hO2'
      rw [← zlat_c n8 n6 hE] at hQ2
      have hK2 := hA2.1
      unfold zlat at hQ2
      by_cases g2 : w < 2
      · rw [if_pos g2] at hQ2
        simp (disch := omega) only [b_116_22, q_116_84, b_116_84, ↓w_iconst, ↓w_aload_n_0, ↓w_iload_n_1, ↓w_iload_n_2, ↓w_pop_i, ↓w_pop_a, ↓w_getfield, ↓w_goto, ↓w_if_icmp_ge, ↓w_ireturn0, ↓w_invokevirtual_1, stw_0, stw_i, stw_l, stw_r, ofK0, ofK1, ofK2, lst1, lst2, lkill, kont_none, kont_some, Int.reduceToNat, List.length_cons, List.length_nil, Nat.reduceAdd, Nat.reduceLeDiff, Nat.zero_le, true_and, and_true, if_true, if_false, ne_eq, Int.reduceEq, Int.reduceNeg, not_false_eq_true, not_true_eq_false, ↓reduceIte, Int.reduceLT, Int.reduceLE, and_self, or_true, true_or, or_false, false_or, false_and, and_false, ah_t_w, ah_m_w, ah_n_w, lst1_0, List.tail_cons, w32_i, zbd, lst2_0, xt_1a hK2, xf_1_12 hK2, xf_1_13 hK2, s_t hK2 hS2, g2, c_217 hK2 hS2 (NX_N hX2)]
        exact hQ2
      · rw [if_neg g2] at hQ2
        by_cases g3 : w = 2
        · rw [if_pos g3] at hQ2
          simp (disch := omega) only [b_116_22, q_116_54, b_116_54, q_116_84, b_116_84, ↓w_iconst, ↓w_aload_n_0, ↓w_iload_n_1, ↓w_iload_n_2, ↓w_pop_i, ↓w_pop_a, ↓w_getfield, ↓w_goto, ↓w_if_icmp_ne, ↓w_if_icmp_ge, ↓w_ireturn0, ↓w_invokevirtual_0, ↓w_invokevirtual_1, stw_0, stw_i, stw_l, stw_r, ofK0, ofK1, ofK2, lst1, lst2, lkill, kont_none, kont_some, Int.reduceToNat, List.length_cons, List.length_nil, Nat.reduceAdd, Nat.reduceLeDiff, Nat.zero_le, true_and, and_true, if_true, if_false, ne_eq, Int.reduceEq, Int.reduceNeg, not_false_eq_true, not_true_eq_false, ↓reduceIte, Int.reduceLT, Int.reduceLE, and_self, or_true, true_or, or_false, false_or, false_and, and_false, ah_t_w, ah_m_w, ah_n_w, lst1_0, List.tail_cons, w32_i, zbd, lst2_0, xt_1a hK2, xf_1_12 hK2, xf_1_13 hK2, s_t hK2 hS2, g3, c_218 hK2 hS2 hF2]
          exact hQ2
        · rw [if_neg g3] at hQ2
          simp (disch := omega) only [b_116_22, q_116_54, b_116_54, q_116_69, b_116_69, ↓w_iconst, ↓w_aload_n_0, ↓w_iload_n_1, ↓w_iload_n_2, ↓w_pop_i, ↓w_pop_a, ↓w_getfield, ↓w_goto, ↓w_ifCond_eq, ↓w_if_icmp_ne, ↓w_if_icmp_ge, ↓w_invokevirtual_0, ↓w_invokevirtual_1, stw_0, stw_i, stw_l, stw_r, ofK0, ofK1, ofK2, lst1, lst2, lkill, kont_none, kont_some, Int.reduceToNat, List.length_cons, List.length_nil, Nat.reduceAdd, Nat.reduceLeDiff, Nat.zero_le, true_and, and_true, if_true, if_false, ne_eq, Int.reduceEq, Int.reduceNeg, not_false_eq_true, not_true_eq_false, ↓reduceIte, Int.reduceLT, Int.reduceLE, and_self, or_true, true_or, or_false, false_or, false_and, and_false, ah_t_w, ah_m_w, ah_n_w, lst1_0, List.tail_cons, w32_i, zbd, lst2_0, xt_1a hK2, xf_1_12 hK2, xf_1_13 hK2, s_t hK2 hS2, g2, g3]
          refine c_214 (d := d + 37) hK2 hS2 hX2 hF2.2.2.2 (fun h3 hK3 hS3 hx3 hO3 => ?_)
          have hA3 := XA_mv hA2 hF.2.2.2 (by unfold isV; omega) hO3
          have hO3' := Off_tr hO2' (Off_mono (Wth_mv (by unfold isV; omega)) hO3)
          have hQ3 := hQ h3 hA3 hO3'
          rw [← zlat_c n8 n6 hE] at hQ3
          unfold zlat at hQ3
          rw [if_neg g2, if_neg g3] at hQ3
          cases e8 : (zcr T (zds T 0 (T 1074 6) (T 1074 7) n.toNat nw) || (zmv T (zds T 0 (T 1074 6) (T 1074 7) n.toNat nw)).isEmpty)
          · rw [e8] at hQ3
            simp (disch := omega) only [b_116_69, q_116_83, b_116_83, q_116_84, b_116_84, ↓w_iconst, ↓w_aload_n_0, ↓w_getfield, ↓w_nop, ↓w_goto, ↓w_ifCond_eq, ↓w_ireturn0, ↓w_invokevirtual_0, stw_0, stw_i, stw_l, stw_r, ofK0, ofK1, ofK2, lst1, lst2, lkill, kont_none, kont_some, Int.reduceToNat, List.length_cons, List.length_nil, Nat.reduceAdd, Nat.reduceLeDiff, Nat.zero_le, true_and, and_true, if_true, if_false, ne_eq, Int.reduceEq, Int.reduceNeg, not_false_eq_true, not_true_eq_false, ↓reduceIte, Int.reduceLT, Int.reduceLE, and_self, or_true, true_or, or_false, false_or, false_and, and_false, ah_t_w, ah_m_w, ah_n_w, lst1_0, List.tail_cons, w32_i, zbd, lst2_0, zb_f]
            exact hQ3
          · rw [e8] at hQ3
            simp (disch := omega) only [b_116_69, q_116_84, b_116_84, ↓w_iconst, ↓w_aload_n_0, ↓w_getfield, ↓w_goto, ↓w_ifCond_eq, ↓w_ireturn0, ↓w_invokevirtual_0, stw_0, stw_i, stw_l, stw_r, ofK0, ofK1, ofK2, lst1, lst2, lkill, kont_none, kont_some, Int.reduceToNat, List.length_cons, List.length_nil, Nat.reduceAdd, Nat.reduceLeDiff, Nat.zero_le, true_and, and_true, if_true, if_false, ne_eq, Int.reduceEq, Int.reduceNeg, not_false_eq_true, not_true_eq_false, ↓reduceIte, Int.reduceLT, Int.reduceLE, and_self, or_true, true_or, or_false, false_or, false_and, and_false, ah_t_w, ah_m_w, ah_n_w, lst1_0, List.tail_cons, w32_i, zbd, lst2_0, zb_t]
            exact hQ3
    · rw [if_neg (fun q => gw q.2)] at hQ
      simp (disch := omega) only [q_116_0, b_116_0, q_116_20, b_116_20, ↓w_iconst, ↓w_bipush, ↓w_aload_n_0, ↓w_iload_n_1, ↓w_iload_n_2, ↓w_nop, ↓w_ifCond_eq, ↓w_ifCond_ne, ↓w_ireturn0, ↓w_invokestatic_3, ↓w_invokevirtual_3, stw_0, stw_i, stw_l, stw_r, ofK0, ofK1, ofK2, lst1, lst2, lkill, kont_none, kont_some, Int.reduceToNat, List.length_cons, List.length_nil, Nat.reduceAdd, Nat.reduceLeDiff, Nat.zero_le, true_and, and_true, if_true, if_false, ne_eq, Int.reduceEq, Int.reduceNeg, not_false_eq_true, not_true_eq_false, ↓reduceIte, Int.reduceLT, Int.reduceLE, and_self, or_true, true_or, or_false, false_or, false_and, and_false, ah_t_w, ah_m_w, ah_n_w, lst1_0, List.tail_cons, w32_i, zbd, lst2_0, xt_1a hK, ahd_1 hA hF hn (Int.le_refl 0) (by decide) g, is_0 gw]
      exact hQ h hA Off_rfl
  · rw [if_neg (fun q => g q.1)] at hQ
    simp (disch := omega) only [q_116_0, b_116_0, q_116_20, b_116_20, ↓w_iconst, ↓w_bipush, ↓w_aload_n_0, ↓w_iload_n_1, ↓w_iload_n_2, ↓w_nop, ↓w_ifCond_eq, ↓w_ifCond_ne, ↓w_ireturn0, ↓w_invokestatic_3, ↓w_invokevirtual_3, stw_0, stw_i, stw_l, stw_r, ofK0, ofK1, ofK2, lst1, lst2, lkill, kont_none, kont_some, Int.reduceToNat, List.length_cons, List.length_nil, Nat.reduceAdd, Nat.reduceLeDiff, Nat.zero_le, true_and, and_true, if_true, if_false, ne_eq, Int.reduceEq, Int.reduceNeg, not_false_eq_true, not_true_eq_false, ↓reduceIte, Int.reduceLT, Int.reduceLE, and_self, or_true, true_or, or_false, false_or, false_and, and_false, ah_t_w, ah_m_w, ah_n_w, lst1_0, List.tail_cons, w32_i, zbd, lst2_0, xt_1a hK, ahd_0 hA hF hn (Int.le_refl 0) (by decide) g]
    exact hQ h hA Off_rfl
theorem c_121 (hA : XA T nw h) (hX : NX T nw) (hF : FV nw) (hL : 0 < T 1074 4 → LV T) (hn : -2147483648 ≤ n ∧ n < 2147483648) (hQ : ∀ h', XA T nw h' → Off Wth h h' → Q (.inl (some (.inl (if (0 ≤ f ∧ f < T 1072 5) ∧ (0 < T 1074 4 ∧ (0 ≤ n ∧ n ≤ 20) ∧ nw 0 + n ≤ 999) then zds T 1 (T 1074 6) (T 1074 7) n.toNat nw (18 + f) else -1)))) h') : wpC (d + 46) 121 [.inr (.inr 1), .inl f, .inl n] h Q := by
  have hK := hA.1
  have hS := hA.2.1
  have n8 := hK.2.2.2.1; have n6 := hK.2.2.2.2.1
  rw [wpC_B]; refine ⟨⟨Nat.zero_lt_succ _, Nat.le_of_ble_eq_true rfl⟩, ?_⟩; simp only [lent]
  by_cases gf : 0 ≤ f ∧ f < T 1072 5
  · by_cases g : 0 < T 1074 4 ∧ (0 ≤ n ∧ n ≤ 20) ∧ nw 0 + n ≤ 999
    · rw [if_pos ⟨gf, g⟩] at hQ
      have tS := sz_t hK is70
      simp (disch := omega) only [q_121_0, b_121_0, ↓w_iconst, ↓w_bipush, ↓w_aload_n_0, ↓w_iload_n_1, ↓w_iload_n_2, ↓w_getfield, ↓w_iaload, ↓w_goto, ↓w_ifCond_eq, ↓w_invokevirtual_1, ↓w_invokevirtual_3, stw_0, stw_i, stw_l, stw_r, ofK0, ofK1, ofK2, lst1, lst2, lkill, kont_none, kont_some, Int.reduceToNat, List.length_cons, List.length_nil, Nat.reduceAdd, Nat.reduceLeDiff, Nat.zero_le, true_and, and_true, if_true, if_false, ne_eq, Int.reduceEq, Int.reduceNeg, not_false_eq_true, not_true_eq_false, ↓reduceIte, Int.reduceLT, Int.reduceLE, and_self, or_true, true_or, or_false, false_or, false_and, and_false, ah_t_w, ah_m_w, ah_n_w, lst1_0, List.tail_cons, w32_i, zbd, lst2_0, xt_1a hK, xf_1_12 hK, xf_1_13 hK, s_t hK hS, s_5 hK hS, s_5a hK hS, s_5b hK hS, fld_1 hK gf, ahd_1 hA hF hn (Int.le_refl 0) (by decide) g, tS]
      refine cpy (d := d + 44) hA hF (fun h1 hA1 hS1 hO1 => ?_)
      have hO1' := Off_mono Wth_cp hO1
      have tS1 := sz_t hA1.1 is70
      simp (disch := omega) only [b_121_0, ↓w_iconst, ↓w_bipush, ↓w_aload_n_0, ↓w_iload_n_1, ↓w_iload_n_2, ↓w_getfield, ↓w_iaload, ↓w_goto, ↓w_ifCond_eq, ↓w_invokevirtual_1, ↓w_invokevirtual_3, stw_0, stw_i, stw_l, stw_r, ofK0, ofK1, ofK2, lst1, lst2, lkill, kont_none, kont_some, Int.reduceToNat, List.length_cons, List.length_nil, Nat.reduceAdd, Nat.reduceLeDiff, Nat.zero_le, true_and, and_true, if_true, if_false, ne_eq, Int.reduceEq, Int.reduceNeg, not_false_eq_true, not_true_eq_false, ↓reduceIte, Int.reduceLT, Int.reduceLE, and_self, or_true, true_or, or_false, false_or, false_and, and_false, ah_t_w, ah_m_w, ah_n_w, lst1_0, List.tail_cons, w32_i, zbd, lst2_0, tS1]
      refine cpd (d := d) hA1 hX hF (hL g.1) g.2.1.1 g.2.2 (fun h2 hA2 hS2 hX2 hF2 hE hO2 => ?_) hS1
      have hQ2 := hQ h2 hA2 (Off_tr hO1' hO2)
      rw [← hE (18 + f) (by omega) (by omega)] at hQ2
      have hK2 := hA2.1
      have eb := sb hS2 gf.1 gf.2
      have f0 := gf.1
      have f6 : f < 6 := by omega
      simp (disch := omega) only [b_121_0, q_121_43, b_121_43, ↓w_iconst, ↓w_bipush, ↓w_aload_n_0, ↓w_iload_n_1, ↓w_iload_n_2, ↓w_getfield, ↓w_iaload, ↓w_goto, ↓w_ifCond_eq, ↓w_ireturn0, ↓w_invokevirtual_1, ↓w_invokevirtual_3, stw_0, stw_i, stw_l, stw_r, ofK0, ofK1, ofK2, lst1, lst2, lkill, kont_none, kont_some, Int.reduceToNat, List.length_cons, List.length_nil, Nat.reduceAdd, Nat.reduceLeDiff, Nat.zero_le, true_and, and_true, if_true, if_false, ne_eq, Int.reduceEq, Int.reduceNeg, not_false_eq_true, not_true_eq_false, ↓reduceIte, Int.reduceLT, Int.reduceLE, and_self, or_true, true_or, or_false, false_or, false_and, and_false, ah_t_w, ah_m_w, ah_n_w, lst1_0, List.tail_cons, w32_i, zbd, lst2_0, xt_1a hK2, xf_1_12 hK2, xf_1_13 hK2, s_t hK2 hS2, s_5 hK2 hS2, s_5a hK2 hS2, s_5b hK2 hS2, eb, f0, f6]
      exact hQ2
    · rw [if_neg (fun q => g q.2)] at hQ
      simp (disch := omega) only [q_121_0, b_121_0, q_121_42, b_121_42, q_121_43, b_121_43, ↓w_iconst, ↓w_bipush, ↓w_aload_n_0, ↓w_iload_n_1, ↓w_iload_n_2, ↓w_getfield, ↓w_iaload, ↓w_nop, ↓w_goto, ↓w_ifCond_eq, ↓w_ireturn0, ↓w_invokevirtual_1, ↓w_invokevirtual_3, stw_0, stw_i, stw_l, stw_r, ofK0, ofK1, ofK2, lst1, lst2, lkill, kont_none, kont_some, Int.reduceToNat, List.length_cons, List.length_nil, Nat.reduceAdd, Nat.reduceLeDiff, Nat.zero_le, true_and, and_true, if_true, if_false, ne_eq, Int.reduceEq, Int.reduceNeg, not_false_eq_true, not_true_eq_false, ↓reduceIte, Int.reduceLT, Int.reduceLE, and_self, or_true, true_or, or_false, false_or, false_and, and_false, ah_t_w, ah_m_w, ah_n_w, lst1_0, List.tail_cons, w32_i, zbd, lst2_0, xt_1a hK, xf_1_12 hK, xf_1_13 hK, s_t hK hS, s_5 hK hS, s_5a hK hS, s_5b hK hS, fld_1 hK gf, ahd_0 hA hF hn (Int.le_refl 0) (by decide) g]
      exact hQ h hA Off_rfl
  · rw [if_neg (fun q => gf q.1)] at hQ
    simp (disch := omega) only [q_121_0, b_121_0, q_121_42, b_121_42, q_121_43, b_121_43, ↓w_iconst, ↓w_bipush, ↓w_aload_n_0, ↓w_iload_n_1, ↓w_iload_n_2, ↓w_getfield, ↓w_iaload, ↓w_nop, ↓w_goto, ↓w_ifCond_eq, ↓w_ireturn0, ↓w_invokevirtual_1, ↓w_invokevirtual_3, stw_0, stw_i, stw_l, stw_r, ofK0, ofK1, ofK2, lst1, lst2, lkill, kont_none, kont_some, Int.reduceToNat, List.length_cons, List.length_nil, Nat.reduceAdd, Nat.reduceLeDiff, Nat.zero_le, true_and, and_true, if_true, if_false, ne_eq, Int.reduceEq, Int.reduceNeg, not_false_eq_true, not_true_eq_false, ↓reduceIte, Int.reduceLT, Int.reduceLE, and_self, or_true, true_or, or_false, false_or, false_and, and_false, ah_t_w, ah_m_w, ah_n_w, lst1_0, List.tail_cons, w32_i, zbd, lst2_0, xt_1a hK, xf_1_12 hK, xf_1_13 hK, s_t hK hS, s_5 hK hS, s_5a hK hS, s_5b hK hS, fld_0 hK gf]
    exact hQ h hA Off_rfl
theorem zpc_1 (k0 : 0 ≤ k) (k1 : k < zall T nw) : (zpc T nw k 0 0).1 = k := by
  unfold zall at k1
  split at k1
  · simp at k1; omega
  · rename_i g
    obtain ⟨q, hq⟩ := zpk_some (zmv T nw) 0 k (by omega) (by omega)
    unfold zpc
    rw [if_neg (by intro u; rcases u with u | u; omega; exact g u), hq]
theorem l_122 (hX : NX T nw) (hF : FV nw) (hL : LV T) (hd : nw 0 + n ≤ 999) (n1 : 1 ≤ n) (f0 : 0 ≤ f) (f1 : f < T 1072 5) {R : Int × Int} (hQ : ∀ h', XA T nw h' → Off Wth h h' → Q (.inl (some (.inl (if w = 0 then R.1 else R.2)))) h') :
    ∀ (j : Nat) (k : Int) (b : Int × Int) tl h', 0 ≤ k → k + j = zall T nw → XA T nw h' → Off Wth h h' → zsp (zspf T nw f n) j k b = R → wpB (d + 45) 122 39 (some (.inr (.inr 1)) :: some (.inl f) :: some (.inl n) :: some (.inl w) :: some (.inl b.1) :: some (.inl b.2) :: some (.inl k) :: tl) [] h' Q := by
  have h40 := hF.2.2.2
  have hV : isV 22 := by unfold isV; omega
  have el := @zav_len T nw
  intro j
  induction j with
  | zero =>
    intro k b tl h' k0 k1 hA hO hR
    have hK := hA.1
    rw [q_122_39]
    simp (disch := omega) only [b_122_39, ↓w_iconst, ↓w_aload_n_0, ↓w_iload_n_1, ↓w_iload_n_2, ↓w_iload_5, ↓w_iload_6, ↓w_pop_i, ↓w_pop_a, ↓w_isub, ↓w_getfield, ↓w_iaload, ↓w_goto, ↓w_if_icmp_ge, ↓w_if_icmp_gt, ↓w_invokevirtual_0, ↓w_invokevirtual_1, stw_0, stw_i, stw_l, stw_r, ofK0, ofK1, ofK2, lst1, lst2, lkill, kont_none, kont_some, Int.reduceToNat, List.length_cons, List.length_nil, Nat.reduceAdd, Nat.reduceLeDiff, Nat.zero_le, true_and, and_true, if_true, if_false, ne_eq, Int.reduceEq, Int.reduceNeg, not_false_eq_true, not_true_eq_false, ↓reduceIte, Int.reduceLT, Int.reduceLE, and_self, or_true, true_or, or_false, false_or, false_and, and_false, ah_t_w, ah_m_w, ah_n_w, lst1_0, List.tail_cons, w32_i, zbd, lst2_0, xt_1a hK, xf_1_12 hK, xf_1_13 hK]
    refine c_108 (d := d + 37) hA hX h40 (fun h1 hA1 hx hlen hO1 => ?_)
    have hlt : ¬ k < (zall T nw : Int) := by omega
    simp only [zsp] at hR
    have hQ1 := hQ h1 hA1 (Off_tr hO (Off_mono (Wth_mv hV) hO1))
    rw [← hR] at hQ1
    by_cases gw : w = 0
    · rw [if_pos gw] at hQ1
      simp (disch := omega) only [b_122_39, q_122_114, b_122_114, q_122_125, b_122_125, ↓w_iconst, ↓w_aload_n_0, ↓w_iload_n_1, ↓w_iload_n_2, ↓w_iload_n_3, ↓w_iload_4, ↓w_iload_5, ↓w_iload_6, ↓w_pop_i, ↓w_pop_a, ↓w_isub, ↓w_getfield, ↓w_iaload, ↓w_goto, ↓w_ifCond_ne, ↓w_if_icmp_ge, ↓w_if_icmp_gt, ↓w_ireturn0, ↓w_invokevirtual_0, ↓w_invokevirtual_1, stw_0, stw_i, stw_l, stw_r, ofK0, ofK1, ofK2, lst1, lst2, lkill, kont_none, kont_some, Int.reduceToNat, List.length_cons, List.length_nil, Nat.reduceAdd, Nat.reduceLeDiff, Nat.zero_le, true_and, and_true, if_true, if_false, ne_eq, Int.reduceEq, Int.reduceNeg, not_false_eq_true, not_true_eq_false, ↓reduceIte, Int.reduceLT, Int.reduceLE, and_self, or_true, true_or, or_false, false_or, false_and, and_false, ah_t_w, ah_m_w, ah_n_w, lst1_0, List.tail_cons, w32_i, zbd, lst2_0, hlt, gw]
      exact hQ1
    · rw [if_neg gw] at hQ1
      simp (disch := omega) only [b_122_39, q_122_114, b_122_114, q_122_123, b_122_123, q_122_125, b_122_125, ↓w_iconst, ↓w_aload_n_0, ↓w_iload_n_1, ↓w_iload_n_2, ↓w_iload_n_3, ↓w_iload_4, ↓w_iload_5, ↓w_iload_6, ↓w_pop_i, ↓w_pop_a, ↓w_isub, ↓w_getfield, ↓w_iaload, ↓w_nop, ↓w_goto, ↓w_ifCond_ne, ↓w_if_icmp_ge, ↓w_if_icmp_gt, ↓w_ireturn0, ↓w_invokevirtual_0, ↓w_invokevirtual_1, stw_0, stw_i, stw_l, stw_r, ofK0, ofK1, ofK2, lst1, lst2, lkill, kont_none, kont_some, Int.reduceToNat, List.length_cons, List.length_nil, Nat.reduceAdd, Nat.reduceLeDiff, Nat.zero_le, true_and, and_true, if_true, if_false, ne_eq, Int.reduceEq, Int.reduceNeg, not_false_eq_true, not_true_eq_false, ↓reduceIte, Int.reduceLT, Int.reduceLE, and_self, or_true, true_or, or_false, false_or, false_and, and_false, ah_t_w, ah_m_w, ah_n_w, lst1_0, List.tail_cons, w32_i, zbd, lst2_0, hlt, gw]
      exact hQ1
  | succ j ih =>
    intro k b tl h' k0 k1 hA hO hR
    have hK := hA.1
    have n8 := hK.2.2.2.1; have n6 := hK.2.2.2.2.1
    rw [q_122_39]
    simp (disch := omega) only [b_122_39, ↓w_iconst, ↓w_aload_n_0, ↓w_iload_n_1, ↓w_iload_n_2, ↓w_iload_5, ↓w_iload_6, ↓w_pop_i, ↓w_pop_a, ↓w_isub, ↓w_getfield, ↓w_iaload, ↓w_goto, ↓w_if_icmp_ge, ↓w_if_icmp_gt, ↓w_invokevirtual_0, ↓w_invokevirtual_1, stw_0, stw_i, stw_l, stw_r, ofK0, ofK1, ofK2, lst1, lst2, lkill, kont_none, kont_some, Int.reduceToNat, List.length_cons, List.length_nil, Nat.reduceAdd, Nat.reduceLeDiff, Nat.zero_le, true_and, and_true, if_true, if_false, ne_eq, Int.reduceEq, Int.reduceNeg, not_false_eq_true, not_true_eq_false, ↓reduceIte, Int.reduceLT, Int.reduceLE, and_self, or_true, true_or, or_false, false_or, false_and, and_false, ah_t_w, ah_m_w, ah_n_w, lst1_0, List.tail_cons, w32_i, zbd, lst2_0, xt_1a hK, xf_1_12 hK, xf_1_13 hK]
    refine c_108 (d := d + 37) hA hX h40 (fun h1 hA1 hx hlen hO1 => ?_)
    have hO1' := Off_tr hO (Off_mono (Wth_mv hV) hO1)
    have hlt : k < (zall T nw : Int) := by omega
    have hK1 := hA1.1
    have tS := sz_t hK1 is70
    simp (disch := omega) only [b_122_39, ↓w_iconst, ↓w_aload_n_0, ↓w_iload_n_1, ↓w_iload_n_2, ↓w_iload_5, ↓w_iload_6, ↓w_pop_i, ↓w_pop_a, ↓w_isub, ↓w_getfield, ↓w_iaload, ↓w_goto, ↓w_if_icmp_ge, ↓w_if_icmp_gt, ↓w_invokevirtual_0, ↓w_invokevirtual_1, stw_0, stw_i, stw_l, stw_r, ofK0, ofK1, ofK2, lst1, lst2, lkill, kont_none, kont_some, Int.reduceToNat, List.length_cons, List.length_nil, Nat.reduceAdd, Nat.reduceLeDiff, Nat.zero_le, true_and, and_true, if_true, if_false, ne_eq, Int.reduceEq, Int.reduceNeg, not_false_eq_true, not_true_eq_false, ↓reduceIte, Int.reduceLT, Int.reduceLE, and_self, or_true, true_or, or_false, false_or, false_and, and_false, ah_t_w, ah_m_w, ah_n_w, lst1_0, List.tail_cons, w32_i, zbd, lst2_0, xt_1a hK1, xf_1_12 hK1, xf_1_13 hK1, hlt, tS]
    refine cpy (d := d + 44) hA1 hF (fun h2 hA2 hS2 hO2 => ?_)
    have hO2' := Off_tr hO1' (Off_mono Wth_cp hO2)
    have tS2 := sz_t hA2.1 is70
    have e1 := zpc_1 k0 hlt
    have hcp : zcpk T nw (zpc T nw k 0 0) := zpc_cp
    have hv := zcpk_v (NX_T hX) hcp
    have d0 := hF.1
    simp (disch := omega) only [b_122_39, ↓w_iconst, ↓w_aload_n_0, ↓w_iload_n_1, ↓w_iload_n_2, ↓w_iload_5, ↓w_iload_6, ↓w_pop_i, ↓w_pop_a, ↓w_isub, ↓w_getfield, ↓w_iaload, ↓w_goto, ↓w_if_icmp_ge, ↓w_if_icmp_gt, ↓w_invokevirtual_0, ↓w_invokevirtual_1, stw_0, stw_i, stw_l, stw_r, ofK0, ofK1, ofK2, lst1, lst2, lkill, kont_none, kont_some, Int.reduceToNat, List.length_cons, List.length_nil, Nat.reduceAdd, Nat.reduceLeDiff, Nat.zero_le, true_and, and_true, if_true, if_false, ne_eq, Int.reduceEq, Int.reduceNeg, not_false_eq_true, not_true_eq_false, ↓reduceIte, Int.reduceLT, Int.reduceLE, and_self, or_true, true_or, or_false, false_or, false_and, and_false, ah_t_w, ah_m_w, ah_n_w, lst1_0, List.tail_cons, w32_i, zbd, lst2_0, tS2]
    have c230 := @c_230 (d + 2)
    rw [← e1]
    refine c_230 (d := d + 2) hA2.1 hS2 hX hA2.2.2.1 hF (by omega) hcp (fun h3 hK3 hS3 hH3 hO3 _ => ?_)
    rw [e1]
    have hO3' := Off_tr hO2' (Off_mono (fun r i w => Wth_dy r i (Or.inl w)) hO3)
    have hO3'' := Off_mono (fun r i w => Wth_dy r i (Or.inl w)) hO3
    have hA3 := XA_th hA2 h40 hO3'' hS3.2.2.2.2.2.2
    have tS3 := sz_t hK3 is70
    have hX3 := NX_dy hX hF hv
    have hF3 := FV_dy hX hF hv (by omega)
    have ed := (zdy_i hX hF hv).1
    simp (disch := omega) only [b_122_39, ↓w_iconst, ↓w_aload_n_0, ↓w_iload_n_1, ↓w_iload_n_2, ↓w_iload_5, ↓w_iload_6, ↓w_pop_i, ↓w_pop_a, ↓w_isub, ↓w_getfield, ↓w_iaload, ↓w_goto, ↓w_if_icmp_ge, ↓w_if_icmp_gt, ↓w_invokevirtual_0, ↓w_invokevirtual_1, stw_0, stw_i, stw_l, stw_r, ofK0, ofK1, ofK2, lst1, lst2, lkill, kont_none, kont_some, Int.reduceToNat, List.length_cons, List.length_nil, Nat.reduceAdd, Nat.reduceLeDiff, Nat.zero_le, true_and, and_true, if_true, if_false, ne_eq, Int.reduceEq, Int.reduceNeg, not_false_eq_true, not_true_eq_false, ↓reduceIte, Int.reduceLT, Int.reduceLE, and_self, or_true, true_or, or_false, false_or, false_and, and_false, ah_t_w, ah_m_w, ah_n_w, lst1_0, List.tail_cons, w32_i, zbd, lst2_0, xt_1a hK3, xf_1_12 hK3, xf_1_13 hK3, tS3]
    refine c_228 (d := d) hK3 hS3 hX3 hH3 hF3 hL (by omega) (by omega) (by omega) (fun h4 hK4 hS4 hH4 hX4 hF4 hO4 => ?_)
    have hO4' := Off_mono Wth_dy hO4
    have hA4 := XA_th hA3 h40 hO4' hS4.2.2.2.2.2.2
    have hE := NE_ds (D0 := T 1074 6) (D1 := T 1074 7) n8 n6 (n - 1).toNat _ _ (NE_dy n8 n6 (NE_rfl (nw := nw)) hF.2.2.1 hX hv) hF3 hX3 (by omega)
    have eb := sb hS4 f0 f1
    rw [hE (18 + f) (by omega) (by omega)] at eb
    have eb : ah_m h4 (70 + 3) f = zspf T nw f n k := eb
    have f6 : f < 6 := by omega
    have hO5 := Off_tr hO3' hO4'
    simp only [zsp] at hR
    have kb : k ≤ 200 := by rw [el] at hlen; omega
    by_cases g : b.2 < zspf T nw f n k
    · rw [if_pos g] at hR
      simp (disch := omega) only [b_122_39, q_122_93, b_122_93, q_122_108, b_122_108, ↓w_iconst, ↓w_aload_n_0, ↓w_iload_n_1, ↓w_iload_n_2, ↓w_iload_5, ↓w_iload_6, ↓w_iinc_6, ↓w_istore, ↓w_pop_i, ↓w_pop_a, ↓w_isub, ↓w_getfield, ↓w_iaload, ↓w_nop, ↓w_goto, ↓w_if_icmp_ge, ↓w_if_icmp_gt, ↓w_invokevirtual_0, ↓w_invokevirtual_1, stw_0, stw_i, stw_l, stw_r, ofK0, ofK1, ofK2, lst1, lst2, lkill, kont_none, kont_some, Int.reduceToNat, List.length_cons, List.length_nil, Nat.reduceAdd, Nat.reduceLeDiff, Nat.zero_le, true_and, and_true, if_true, if_false, ne_eq, Int.reduceEq, Int.reduceNeg, not_false_eq_true, not_true_eq_false, ↓reduceIte, Int.reduceLT, Int.reduceLE, and_self, or_true, true_or, or_false, false_or, false_and, and_false, ah_t_w, ah_m_w, ah_n_w, lst1_0, List.tail_cons, w32_i, zbd, lst2_0, xt_1a hK4, xf_1_12 hK4, xf_1_13 hK4, s_t hK4 hS4, s_5 hK4 hS4, s_5a hK4 hS4, s_5b hK4 hS4, eb, f0, f6, g]
      exact ih (k + 1) (k, zspf T nw f n k) _ h4 (by omega) (by omega) hA4 hO5 hR
    · rw [if_neg g] at hR
      simp (disch := omega) only [b_122_39, q_122_108, b_122_108, ↓w_iconst, ↓w_aload_n_0, ↓w_iload_n_1, ↓w_iload_n_2, ↓w_iload_5, ↓w_iload_6, ↓w_iinc_6, ↓w_pop_i, ↓w_pop_a, ↓w_isub, ↓w_getfield, ↓w_iaload, ↓w_goto, ↓w_if_icmp_ge, ↓w_if_icmp_gt, ↓w_invokevirtual_0, ↓w_invokevirtual_1, stw_0, stw_i, stw_l, stw_r, ofK0, ofK1, ofK2, lst1, lst2, lkill, kont_none, kont_some, Int.reduceToNat, List.length_cons, List.length_nil, Nat.reduceAdd, Nat.reduceLeDiff, Nat.zero_le, true_and, and_true, if_true, if_false, ne_eq, Int.reduceEq, Int.reduceNeg, not_false_eq_true, not_true_eq_false, ↓reduceIte, Int.reduceLT, Int.reduceLE, and_self, or_true, true_or, or_false, false_or, false_and, and_false, ah_t_w, ah_m_w, ah_n_w, lst1_0, List.tail_cons, w32_i, zbd, lst2_0, xt_1a hK4, xf_1_12 hK4, xf_1_13 hK4, s_t hK4 hS4, s_5 hK4 hS4, s_5a hK4 hS4, s_5b hK4 hS4, eb, f0, f6, g]
      exact ih (k + 1) b _ h4 (by omega) (by omega) hA4 hO5 hR
theorem c_122 (hA : XA T nw h) (hX : NX T nw) (hF : FV nw) (hL : 0 < T 1074 4 → LV T) (hn : -2147483648 ≤ n ∧ n < 2147483648) (hQ : ∀ h', XA T nw h' → Off Wth h h' → Q (.inl (some (.inl (if (0 ≤ f ∧ f < T 1072 5) ∧ (0 < T 1074 4 ∧ (1 ≤ n ∧ n ≤ 6) ∧ nw 0 + n ≤ 999) ∧ (0 ≤ w ∧ w ≤ 1) then (if w = 0 then (zsp (zspf T nw f n) (zall T nw) 0 (-1, -1)).1 else (zsp (zspf T nw f n) (zall T nw) 0 (-1, -1)).2) else -1)))) h') : wpC (d + 46) 122 [.inr (.inr 1), .inl f, .inl n, .inl w] h Q := by
  have hK := hA.1
  have hS := hA.2.1
  rw [wpC_B]; refine ⟨⟨Nat.zero_lt_succ _, Nat.le_of_ble_eq_true rfl⟩, ?_⟩; simp only [lent]
  by_cases gf : 0 ≤ f ∧ f < T 1072 5
  · by_cases g : 0 < T 1074 4 ∧ (1 ≤ n ∧ n ≤ 6) ∧ nw 0 + n ≤ 999
    · by_cases gw : 0 ≤ w ∧ w ≤ 1
      · rw [if_pos ⟨gf, g, gw⟩] at hQ
        simp (disch := omega) only [q_122_0, b_122_0, q_122_30, b_122_30, ↓w_iconst, ↓w_bipush, ↓w_aload_n_0, ↓w_iload_n_1, ↓w_iload_n_2, ↓w_iload_n_3, ↓w_istore, ↓w_nop, ↓w_ifCond_eq, ↓w_ifCond_ne, ↓w_invokevirtual_1, ↓w_invokestatic_3, ↓w_invokevirtual_3, stw_0, stw_i, stw_l, stw_r, ofK0, ofK1, ofK2, lst1, lst2, lkill, kont_none, kont_some, Int.reduceToNat, List.length_cons, List.length_nil, Nat.reduceAdd, Nat.reduceLeDiff, Nat.zero_le, true_and, and_true, if_true, if_false, ne_eq, Int.reduceEq, Int.reduceNeg, not_false_eq_true, not_true_eq_false, ↓reduceIte, Int.reduceLT, Int.reduceLE, and_self, or_true, true_or, or_false, false_or, false_and, and_false, ah_t_w, ah_m_w, ah_n_w, lst1_0, List.tail_cons, w32_i, zbd, lst2_0, xt_1a hK, fld_1 hK gf, ahd_1 hA hF hn (by decide) (by decide) g, is_1 gw]
        exact l_122 (d := d) hX hF (hL g.1) g.2.2 g.2.1.1 gf.1 gf.2 hQ (zall T nw) 0 (-1, -1) _ h (by omega) (by omega) hA Off_rfl rfl
      · rw [if_neg (fun q => gw q.2.2)] at hQ
        simp (disch := omega) only [q_122_0, b_122_0, q_122_28, b_122_28, ↓w_iconst, ↓w_bipush, ↓w_aload_n_0, ↓w_iload_n_1, ↓w_iload_n_2, ↓w_iload_n_3, ↓w_nop, ↓w_ifCond_eq, ↓w_ifCond_ne, ↓w_ireturn0, ↓w_invokevirtual_1, ↓w_invokestatic_3, ↓w_invokevirtual_3, stw_0, stw_i, stw_l, stw_r, ofK0, ofK1, ofK2, lst1, lst2, lkill, kont_none, kont_some, Int.reduceToNat, List.length_cons, List.length_nil, Nat.reduceAdd, Nat.reduceLeDiff, Nat.zero_le, true_and, and_true, if_true, if_false, ne_eq, Int.reduceEq, Int.reduceNeg, not_false_eq_true, not_true_eq_false, ↓reduceIte, Int.reduceLT, Int.reduceLE, and_self, or_true, true_or, or_false, false_or, false_and, and_false, ah_t_w, ah_m_w, ah_n_w, lst1_0, List.tail_cons, w32_i, zbd, lst2_0, xt_1a hK, fld_1 hK gf, ahd_1 hA hF hn (by decide) (by decide) g, is_0 gw]
        exact hQ h hA Off_rfl
    · rw [if_neg (fun q => g q.2.1)] at hQ
      simp (disch := omega) only [q_122_0, b_122_0, q_122_28, b_122_28, ↓w_iconst, ↓w_bipush, ↓w_aload_n_0, ↓w_iload_n_1, ↓w_iload_n_2, ↓w_iload_n_3, ↓w_nop, ↓w_ifCond_eq, ↓w_ifCond_ne, ↓w_ireturn0, ↓w_invokevirtual_1, ↓w_invokestatic_3, ↓w_invokevirtual_3, stw_0, stw_i, stw_l, stw_r, ofK0, ofK1, ofK2, lst1, lst2, lkill, kont_none, kont_some, Int.reduceToNat, List.length_cons, List.length_nil, Nat.reduceAdd, Nat.reduceLeDiff, Nat.zero_le, true_and, and_true, if_true, if_false, ne_eq, Int.reduceEq, Int.reduceNeg, not_false_eq_true, not_true_eq_false, ↓reduceIte, Int.reduceLT, Int.reduceLE, and_self, or_true, true_or, or_false, false_or, false_and, and_false, ah_t_w, ah_m_w, ah_n_w, lst1_0, List.tail_cons, w32_i, zbd, lst2_0, xt_1a hK, fld_1 hK gf, ahd_0 hA hF hn (by decide) (by decide) g]
      exact hQ h hA Off_rfl
  · rw [if_neg (fun q => gf q.1)] at hQ
    simp (disch := omega) only [q_122_0, b_122_0, q_122_28, b_122_28, ↓w_iconst, ↓w_bipush, ↓w_aload_n_0, ↓w_iload_n_1, ↓w_iload_n_2, ↓w_iload_n_3, ↓w_nop, ↓w_ifCond_eq, ↓w_ifCond_ne, ↓w_ireturn0, ↓w_invokevirtual_1, ↓w_invokestatic_3, ↓w_invokevirtual_3, stw_0, stw_i, stw_l, stw_r, ofK0, ofK1, ofK2, lst1, lst2, lkill, kont_none, kont_some, Int.reduceToNat, List.length_cons, List.length_nil, Nat.reduceAdd, Nat.reduceLeDiff, Nat.zero_le, true_and, and_true, if_true, if_false, ne_eq, Int.reduceEq, Int.reduceNeg, not_false_eq_true, not_true_eq_false, ↓reduceIte, Int.reduceLT, Int.reduceLE, and_self, or_true, true_or, or_false, false_or, false_and, and_false, ah_t_w, ah_m_w, ah_n_w, lst1_0, List.tail_cons, w32_i, zbd, lst2_0, xt_1a hK, fld_0 hK gf]
    exact hQ h hA Off_rfl
theorem zbea_bx (hF : FV nw) (n6 : 0 ≤ T 1072 5 ∧ T 1072 5 ≤ 6) : 0 ≤ zbea T nw ∧ zbea T nw ≤ 6000 := by
  have : ∀ (j : Nat) (m a : Int), 0 ≤ m → m + j ≤ 6 → 0 ≤ a → a ≤ 999 * m → 0 ≤ zbo nw j m a ∧ zbo nw j m a ≤ 6000 := by
    intro j
    induction j with
    | zero => intro m a m0 m1 a0 a1; simp only [zbo]; omega
    | succ j ih =>
      intro m a m0 m1 a0 a1
      have := hF.2.1 m m0 (by omega)
      simp only [zbo]
      exact ih (m + 1) _ (by omega) (by omega) (by omega) (by omega)
  exact this _ _ _ (by omega) (by omega) (by omega) (by omega)
theorem c_124 (hA : XA T nw h) (hX : NX T nw) (hF : FV nw) (hL : 0 < T 1074 4 → LV T) (hn : -2147483648 ≤ n ∧ n < 2147483648) (hQ : ∀ h', XA T nw h' → Off Wth h h' → Q (.inl (some (.inr (.inl (if (0 ≤ s ∧ s ≤ 1) ∧ (1 ≤ k ∧ k ≤ 2) ∧ (0 < T 1074 4 ∧ (0 ≤ n ∧ n ≤ 20) ∧ nw 0 + n ≤ 999) then zbea T (zds T 1 (if s = 0 then k else T 1074 6) (if s = 1 then k else T 1074 7) n.toNat nw) - zbea T (zds T 1 (T 1074 6) (T 1074 7) n.toNat nw) else -1000000000000000))))) h') : wpC (d + 46) 124 [.inr (.inr 1), .inl s, .inl k, .inl n] h Q := by
  have hK := hA.1
  have hS := hA.2.1
  have n8 := hK.2.2.2.1; have n6 := hK.2.2.2.2.1
  have d0 := hF.1
  rw [wpC_B]; refine ⟨⟨Nat.zero_lt_succ _, Nat.le_of_ble_eq_true rfl⟩, ?_⟩; simp only [lent]
  by_cases gs : 0 ≤ s ∧ s ≤ 1
  · by_cases gk : 1 ≤ k ∧ k ≤ 2
    · by_cases g : 0 < T 1074 4 ∧ (0 ≤ n ∧ n ≤ 20) ∧ nw 0 + n ≤ 999
      · rw [if_pos ⟨gs, gk, g⟩] at hQ
        have l1 := (hL g.1).1; have l2 := (hL g.1).2
        have tS := sz_t hK is70
        simp (disch := omega) only [q_124_0, b_124_0, q_124_33, b_124_33, ↓w_iconst, ↓w_bipush, ↓w_aload_n_0, ↓w_iload_n_1, ↓w_iload_n_2, ↓w_iload_n_3, ↓w_istore, ↓w_getfield, ↓w_nop, ↓w_goto, ↓w_ifCond_eq, ↓w_ifCond_ne, ↓w_invokevirtual_0, ↓w_invokevirtual_1, ↓w_invokestatic_3, ↓w_invokevirtual_3, stw_0, stw_i, stw_l, stw_r, ofK0, ofK1, ofK2, lst1, lst2, lkill, kont_none, kont_some, Int.reduceToNat, List.length_cons, List.length_nil, Nat.reduceAdd, Nat.reduceLeDiff, Nat.zero_le, true_and, and_true, if_true, if_false, ne_eq, Int.reduceEq, Int.reduceNeg, not_false_eq_true, not_true_eq_false, ↓reduceIte, Int.reduceLT, Int.reduceLE, and_self, or_true, true_or, or_false, false_or, false_and, and_false, ah_t_w, ah_m_w, ah_n_w, lst1_0, List.tail_cons, w32_i, zbd, lst2_0, xt_1a hK, xf_1_12 hK, xf_1_13 hK, s_t hK hS, is_1 gs, is_1 gk, ahd_1 hA hF hn (by decide) (by decide) g, tS]
        refine cpy (d := d + 44) hA hF (fun h1 hA1 hS1 hO1 => ?_)
        have hO1' := Off_mono Wth_cp hO1
        have tS1 := sz_t hA1.1 is70
        simp (disch := omega) only [b_124_33, ↓w_aload_n_0, ↓w_iload_n_1, ↓w_iload_n_2, ↓w_iload_n_3, ↓w_istore, ↓w_getfield, ↓w_goto, ↓w_ifCond_ne, ↓w_invokevirtual_0, ↓w_invokevirtual_1, stw_0, stw_i, stw_l, stw_r, ofK0, ofK1, ofK2, lst1, lst2, lkill, kont_none, kont_some, Int.reduceToNat, List.length_cons, List.length_nil, Nat.reduceAdd, Nat.reduceLeDiff, Nat.zero_le, true_and, and_true, if_true, if_false, ne_eq, Int.reduceEq, Int.reduceNeg, not_false_eq_true, not_true_eq_false, ↓reduceIte, Int.reduceLT, Int.reduceLE, and_self, or_true, true_or, or_false, false_or, false_and, and_false, ah_t_w, ah_m_w, ah_n_w, lst1_0, List.tail_cons, w32_i, zbd, lst2_0, tS1]
        refine cpd (d := d) hA1 hX hF (hL g.1) g.2.1.1 g.2.2 (fun h2 hA2 hS2 hX2 hF2 hE hO2 => ?_) hS1
        have hO2' := Off_tr hO1' hO2
        have hK2 := hA2.1
        have b2 := zbea_bx (T := T) hF2 n6
        have hS25 := hA2.2.1
        simp (disch := omega) only [b_124_33, ↓w_aload_n_0, ↓w_iload_n_1, ↓w_iload_n_2, ↓w_iload_n_3, ↓w_istore, ↓w_getfield, ↓w_goto, ↓w_ifCond_ne, ↓w_invokevirtual_0, ↓w_invokevirtual_1, stw_0, stw_i, stw_l, stw_r, ofK0, ofK1, ofK2, lst1, lst2, lkill, kont_none, kont_some, Int.reduceToNat, List.length_cons, List.length_nil, Nat.reduceAdd, Nat.reduceLeDiff, Nat.zero_le, true_and, and_true, if_true, if_false, ne_eq, Int.reduceEq, Int.reduceNeg, not_false_eq_true, not_true_eq_false, ↓reduceIte, Int.reduceLT, Int.reduceLE, and_self, or_true, true_or, or_false, false_or, false_and, and_false, ah_t_w, ah_m_w, ah_n_w, lst1_0, List.tail_cons, w32_i, zbd, lst2_0, xt_1a hK2, xf_1_12 hK2, xf_1_13 hK2, s_t hK2 hS2, c_218 hK2 hS2 hF2]
        refine cpy (d := d + 44) hA2 hF (fun h3 hA3 hS3 hO3 => ?_)
        have hO3' := Off_tr hO2' (Off_mono Wth_cp hO3)
        have hK3 := hA3.1
        have tS3 := sz_t hK3 is70
        have fin : ∀ E0 E1, (1 ≤ E0 ∧ E0 ≤ 3) → (1 ≤ E1 ∧ E1 ≤ 3) → E0 = (if s = 0 then k else T 1074 6) → E1 = (if s = 1 then k else T 1074 7) → ∀ tl, wpB (d + 45) 124 100 (some (.inr (.inr 1)) :: some (.inl s) :: some (.inl k) :: some (.inl n) :: some (.inl (zbea T (zds T 0 (T 1074 6) (T 1074 7) n.toNat nw))) :: tl) [.inl E1, .inl E0, .inl n, .inr (.inr 70)] h3 Q := by
          intro E0 E1 hE0 hE1 e0 e1 tl
          rw [← e0, ← e1] at hQ
          simp (disch := omega) only [q_124_100, b_124_100, ↓w_aload_n_0, ↓w_iload_4, ↓w_pop_i, ↓w_pop_a, ↓w_isub, ↓w_i2l, ↓w_getfield, ↓w_lreturn, ↓w_invokevirtual_0, ↓w_invokevirtual_3, stw_0, stw_i, stw_l, stw_r, ofK0, ofK1, ofK2, lst1, lst2, lkill, kont_none, kont_some, Int.reduceToNat, List.length_cons, List.length_nil, Nat.reduceAdd, Nat.reduceLeDiff, Nat.zero_le, true_and, and_true, if_true, if_false, ne_eq, Int.reduceEq, Int.reduceNeg, not_false_eq_true, not_true_eq_false, ↓reduceIte, Int.reduceLT, Int.reduceLE, and_self, or_true, true_or, or_false, false_or, false_and, and_false, ah_t_w, ah_m_w, ah_n_w, lst1_0, List.tail_cons, w32_i, zbd, lst2_0, xt_1a hK3, xf_1_13 hK3, s_t hK3 hS3, tS3]
          refine c_229 (d := d + 1) hK3 hS3 hX hA3.2.2.1 hF hE0 hE1 (by omega) (by omega) (by omega) (fun h4 hK4 hS4 hH4 hX4 hF4 hO4 => ?_)
          have hO4' := Off_mono Wth_dy hO4
          have hA4 := XA_th hA3 hF.2.2.2 hO4' hS4.2.2.2.2.2.2
          have hE4 := NE_ds (D0 := E0) (D1 := E1) n8 n6 n.toNat nw nw NE_rfl hF hX (by omega)
          have b4 := zbea_bx (T := T) hF4 n6
          have hQ4 := hQ h4 hA4 (Off_tr hO3' hO4')
          rw [← zbea_c n6 hE, ← zbea_c n6 hE4] at hQ4
          simp (disch := omega) only [b_124_100, ↓w_aload_n_0, ↓w_iload_4, ↓w_pop_i, ↓w_pop_a, ↓w_isub, ↓w_i2l, ↓w_getfield, ↓w_lreturn, ↓w_invokevirtual_0, ↓w_invokevirtual_3, stw_0, stw_i, stw_l, stw_r, ofK0, ofK1, ofK2, lst1, lst2, lkill, kont_none, kont_some, Int.reduceToNat, List.length_cons, List.length_nil, Nat.reduceAdd, Nat.reduceLeDiff, Nat.zero_le, true_and, and_true, if_true, if_false, ne_eq, Int.reduceEq, Int.reduceNeg, not_false_eq_true, not_true_eq_false, ↓reduceIte, Int.reduceLT, Int.reduceLE, and_self, or_true, true_or, or_false, false_or, false_and, and_false, ah_t_w, ah_m_w, ah_n_w, lst1_0, List.tail_cons, w32_i, zbd, lst2_0, xt_1a hK4, xf_1_13 hK4, s_t hK4 hS4, c_218 hK4 hS4 hF4]
          exact hQ4
        by_cases s0 : s = 0
        · have s1 : ¬ s = 1 := by omega
          have fin := fin k (T 1074 7) (by omega) (by omega) (by rw [if_pos s0]) (by rw [if_neg s1])
          simp (disch := omega) only [b_124_33, q_124_82, b_124_82, q_124_91, b_124_91, ↓w_iconst, ↓w_aload_n_0, ↓w_iload_n_1, ↓w_iload_n_2, ↓w_iload_n_3, ↓w_istore, ↓w_getfield, ↓w_iaload, ↓w_nop, ↓w_goto, ↓w_ifCond_ne, ↓w_if_icmp_ne, ↓w_invokevirtual_0, ↓w_invokevirtual_1, stw_0, stw_i, stw_l, stw_r, ofK0, ofK1, ofK2, lst1, lst2, lkill, kont_none, kont_some, Int.reduceToNat, List.length_cons, List.length_nil, Nat.reduceAdd, Nat.reduceLeDiff, Nat.zero_le, true_and, and_true, if_true, if_false, ne_eq, Int.reduceEq, Int.reduceNeg, not_false_eq_true, not_true_eq_false, ↓reduceIte, Int.reduceLT, Int.reduceLE, and_self, or_true, true_or, or_false, false_or, false_and, and_false, ah_t_w, ah_m_w, ah_n_w, lst1_0, List.tail_cons, w32_i, zbd, lst2_0, xt_1a hK3, x_0, xf_1_12 hK3, xf_1_13 hK3, xb_t hK3, x_lk, xlk_a hK3, xlk_b hK3, xlk_0 hK3, xlk_1 hK3, s_t hK3 hS3, s0]
          rw [s0] at fin
          exact fin _
        · have s1 : s = 1 := by omega
          have fin := fin (T 1074 6) k (by omega) (by omega) (by rw [if_neg s0]) (by rw [if_pos s1])
          simp (disch := omega) only [b_124_33, q_124_73, b_124_73, q_124_82, b_124_82, ↓w_iconst, ↓w_aload_n_0, ↓w_iload_n_1, ↓w_iload_n_2, ↓w_iload_n_3, ↓w_istore, ↓w_getfield, ↓w_iaload, ↓w_nop, ↓w_goto, ↓w_ifCond_ne, ↓w_if_icmp_ne, ↓w_invokevirtual_0, ↓w_invokevirtual_1, stw_0, stw_i, stw_l, stw_r, ofK0, ofK1, ofK2, lst1, lst2, lkill, kont_none, kont_some, Int.reduceToNat, List.length_cons, List.length_nil, Nat.reduceAdd, Nat.reduceLeDiff, Nat.zero_le, true_and, and_true, if_true, if_false, ne_eq, Int.reduceEq, Int.reduceNeg, not_false_eq_true, not_true_eq_false, ↓reduceIte, Int.reduceLT, Int.reduceLE, and_self, or_true, true_or, or_false, false_or, false_and, and_false, ah_t_w, ah_m_w, ah_n_w, lst1_0, List.tail_cons, w32_i, zbd, lst2_0, xt_1a hK3, x_0, xf_1_12 hK3, xf_1_13 hK3, xb_t hK3, x_lk, xlk_a hK3, xlk_b hK3, xlk_0 hK3, xlk_1 hK3, s_t hK3 hS3, s1]
          rw [s1] at fin
          exact fin _
      · rw [if_neg (fun q => g q.2.2)] at hQ
        simp (disch := omega) only [q_124_0, b_124_0, q_124_29, b_124_29, ↓w_iconst, ↓w_bipush, ↓w_ldc2_w, ↓w_aload_n_0, ↓w_iload_n_1, ↓w_iload_n_2, ↓w_iload_n_3, ↓w_nop, ↓w_ifCond_eq, ↓w_ifCond_ne, ↓w_lreturn, ↓w_invokestatic_3, ↓w_invokevirtual_3, stw_0, stw_i, stw_l, stw_r, ofK0, ofK1, ofK2, lst1, lst2, lkill, kont_none, kont_some, Int.reduceToNat, List.length_cons, List.length_nil, Nat.reduceAdd, Nat.reduceLeDiff, Nat.zero_le, true_and, and_true, if_true, if_false, ne_eq, Int.reduceEq, Int.reduceNeg, not_false_eq_true, not_true_eq_false, ↓reduceIte, Int.reduceLT, Int.reduceLE, and_self, or_true, true_or, or_false, false_or, false_and, and_false, ah_t_w, ah_m_w, ah_n_w, lst1_0, List.tail_cons, w32_i, zbd, lst2_0, xt_1a hK, is_1 gs, is_1 gk, ahd_0 hA hF hn (by decide) (by decide) g]
        exact hQ h hA Off_rfl
    · rw [if_neg (fun q => gk q.2.1)] at hQ
      simp (disch := omega) only [q_124_0, b_124_0, q_124_29, b_124_29, ↓w_iconst, ↓w_bipush, ↓w_ldc2_w, ↓w_aload_n_0, ↓w_iload_n_1, ↓w_iload_n_2, ↓w_iload_n_3, ↓w_nop, ↓w_ifCond_eq, ↓w_ifCond_ne, ↓w_lreturn, ↓w_invokestatic_3, ↓w_invokevirtual_3, stw_0, stw_i, stw_l, stw_r, ofK0, ofK1, ofK2, lst1, lst2, lkill, kont_none, kont_some, Int.reduceToNat, List.length_cons, List.length_nil, Nat.reduceAdd, Nat.reduceLeDiff, Nat.zero_le, true_and, and_true, if_true, if_false, ne_eq, Int.reduceEq, Int.reduceNeg, not_false_eq_true, not_true_eq_false, ↓reduceIte, Int.reduceLT, Int.reduceLE, and_self, or_true, true_or, or_false, false_or, false_and, and_false, ah_t_w, ah_m_w, ah_n_w, lst1_0, List.tail_cons, w32_i, zbd, lst2_0, xt_1a hK, is_1 gs, is_0 gk]
      exact hQ h hA Off_rfl
  · rw [if_neg (fun q => gs q.1)] at hQ
    simp (disch := omega) only [q_124_0, b_124_0, q_124_29, b_124_29, ↓w_iconst, ↓w_bipush, ↓w_ldc2_w, ↓w_aload_n_0, ↓w_iload_n_1, ↓w_iload_n_2, ↓w_iload_n_3, ↓w_nop, ↓w_ifCond_eq, ↓w_ifCond_ne, ↓w_lreturn, ↓w_invokestatic_3, ↓w_invokevirtual_3, stw_0, stw_i, stw_l, stw_r, ofK0, ofK1, ofK2, lst1, lst2, lkill, kont_none, kont_some, Int.reduceToNat, List.length_cons, List.length_nil, Nat.reduceAdd, Nat.reduceLeDiff, Nat.zero_le, true_and, and_true, if_true, if_false, ne_eq, Int.reduceEq, Int.reduceNeg, not_false_eq_true, not_true_eq_false, ↓reduceIte, Int.reduceLT, Int.reduceLE, and_self, or_true, true_or, or_false, false_or, false_and, and_false, ah_t_w, ah_m_w, ah_n_w, lst1_0, List.tail_cons, w32_i, zbd, lst2_0, xt_1a hK, is_0 gs]
    exact hQ h hA Off_rfl
end Z5
