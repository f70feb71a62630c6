/-! ===== M: men as told ===== -/
section BRD3
variable {d : Nat} {h h0 : AH} {Q : QQ} {x y z m k s l w a b c v n p r o lo hi bg kd sd : Int} {S : Int → Int → Int} {t : Int → Int}
set_option maxHeartbeats 4000000
theorem l_257b {kk pp : Int} (hB : BX kk pp h) (e72 : ah_m h 1072 1 = c) (hc : 0 ≤ c ∧ c ≤ 8) (hQ : Q (.inl none) h) : ∀ (j : Nat) (i : Int), 0 ≤ i → i + j = c → wpB (d + 6) 257 93 [some (.inr (.inr 1036)), some (.inl bg), some (.inr (.inl v)), none, some (.inr (.inl w)), none, some (.inl kd), some (.inl sd), some (.inl i)] [] h Q := by
  have e5 := hB.2.1; have hk := hB.2.2.2
  intro j
  induction j with
  | zero =>
    intro i i0 i1
    have hlt : ¬ i < c := by omega
    simp (disch := omega) only [q_257_93, b_257_93, q_257_160, b_257_160, ↓w_iconst, ↓w_aload_n_0, ↓w_iload_8, ↓w_iadd, ↓w_imul, ↓w_getfield, ↓w_iaload, ↓w_nop, ↓w_ifCond_eq, ↓w_ifCond_ne, ↓w_if_icmp_ne, ↓w_if_icmp_ge, ↓w_return, ↓w_invokevirtual_2, stw_0, stw_i, stw_l, stw_r, ofK0, ofK1, ofK2, lst1, lst2, lkill, kont_none, kont_some, Int.reduceToNat, List.length_cons, List.length_nil, Nat.reduceAdd, Nat.reduceLeDiff, Nat.zero_le, true_and, and_true, if_true, if_false, ne_eq, Int.reduceEq, Int.reduceNeg, not_false_eq_true, not_true_eq_false, ↓reduceIte, Int.reduceLT, Int.reduceLE, and_self, or_true, true_or, or_false, false_or, false_and, and_false, ah_t_w, ah_m_w, ah_n_w, lst1_0, List.tail_cons, w32_i, zbd, lst2_0, mt_1036a hB.1, mt_1072a hB.1, mt_1072b hB.1, mf_45 hB.1, mt_1077a hB.1, mt_1077b hB.1, mf_50 hB.1, e5, hk, e72, hlt]
    exact hQ
  | succ j ih =>
    intro i i0 i1
    have hlt : i < c := by omega
    have ih := ih (i + 1) (by omega) (by omega)
    rw [q_257_93]
    simp (disch := omega) only [b_257_93, q_257_154, b_257_154, ↓w_iconst, ↓w_aload_n_0, ↓w_iload_8, ↓w_iinc_8, ↓w_iadd, ↓w_imul, ↓w_getfield, ↓w_iaload, ↓w_nop, ↓w_goto, ↓w_ifCond_ne, ↓w_if_icmp_ne, ↓w_if_icmp_ge, ↓w_invokevirtual_2, stw_0, stw_i, stw_l, stw_r, ofK0, ofK1, ofK2, lst1, lst2, lkill, kont_none, kont_some, Int.reduceToNat, List.length_cons, List.length_nil, Nat.reduceAdd, Nat.reduceLeDiff, Nat.zero_le, true_and, and_true, if_true, if_false, ne_eq, Int.reduceEq, Int.reduceNeg, not_false_eq_true, not_true_eq_false, ↓reduceIte, Int.reduceLT, Int.reduceLE, and_self, or_true, true_or, or_false, false_or, false_and, and_false, ah_t_w, ah_m_w, ah_n_w, lst1_0, List.tail_cons, w32_i, zbd, lst2_0, mt_1036a hB.1, mt_1072a hB.1, mt_1072b hB.1, mf_45 hB.1, mt_1077a hB.1, mt_1077b hB.1, mf_50 hB.1, e5, hk, e72, hlt]
    exact ih
theorem l_257 {pl : Int} (hL : LSt t n k S h) (hC : SC S) (e60 : ah_m h 1036 60 = x) (e61 : ah_m h 1036 61 = y) (e10 : ah_m h 1036 10 = pl) (h1 : zdupm S x y (S 1072 1).toNat 0 = true → Q (.inl none) (ah_w (ah_w h 1036 5 2) 1036 6 pl))
    (h0 : zdupm S x y (S 1072 1).toNat 0 = false → wpB (d + 6) 257 160 [some (.inr (.inr 1036)), some (.inl bg), some (.inr (.inl v)), none, some (.inr (.inl w)), none, some (.inl kd), some (.inl sd), some (.inl (S 1072 1))] [] h Q) :
    ∀ (j : Nat) (i : Int), 0 ≤ i → i + j = S 1072 1 → zdupm S x y (S 1072 1).toNat 0 = zdupm S x y j i → wpB (d + 6) 257 93 [some (.inr (.inr 1036)), some (.inl bg), some (.inr (.inl v)), none, some (.inr (.inl w)), none, some (.inl kd), some (.inl sd), some (.inl i)] [] h Q := by
  have hc := hC.2.1
  have e72 := LS_r hL (r := 1072) (by decide)
  have e77 := LS_r hL (r := 1077) (by decide)
  have hM := hL.1.1
  have h5 := hL.1.2.2.2.2.1
  intro j
  induction j with
  | zero =>
    intro i i0 i1 hR
    have hlt : ¬ i < S 1072 1 := by omega
    have ei : i = S 1072 1 := by omega
    simp (disch := omega) only [q_257_93, b_257_93, ↓w_iconst, ↓w_aload_n_0, ↓w_iload_8, ↓w_iadd, ↓w_imul, ↓w_getfield, ↓w_iaload, ↓w_nop, ↓w_ifCond_ne, ↓w_if_icmp_ne, ↓w_if_icmp_ge, ↓w_invokevirtual_2, stw_0, stw_i, stw_l, stw_r, ofK0, ofK1, ofK2, lst1, lst2, lkill, kont_none, kont_some, Int.reduceToNat, List.length_cons, List.length_nil, Nat.reduceAdd, Nat.reduceLeDiff, Nat.zero_le, true_and, and_true, if_true, if_false, ne_eq, Int.reduceEq, Int.reduceNeg, not_false_eq_true, not_true_eq_false, ↓reduceIte, Int.reduceLT, Int.reduceLE, and_self, or_true, true_or, or_false, false_or, false_and, and_false, ah_t_w, ah_m_w, ah_n_w, lst1_0, List.tail_cons, w32_i, zbd, lst2_0, mt_1036a hM, mt_1072a hM, mt_1072b hM, mf_45 hM, mt_1077a hM, mt_1077b hM, mf_50 hM, e72, hlt]
    rw [ei]; exact h0 (by rw [hR]; rfl)
  | succ j ih =>
    intro i i0 i1 hR
    have hlt : i < S 1072 1 := by omega
    simp only [zdupm] at hR
    rw [q_257_93]
    by_cases g1 : S 1077 (2 * i) = x
    · by_cases g2 : S 1077 (2 * i + 1) = y
      · rw [if_pos ⟨g1, g2⟩] at hR
        simp (disch := omega) only [b_257_93, q_257_154, b_257_154, ↓w_iconst, ↓w_aload_n_0, ↓w_iload_8, ↓w_iinc_8, ↓w_iadd, ↓w_imul, ↓w_getfield, ↓w_iaload, ↓w_nop, ↓w_goto, ↓w_ifCond_ne, ↓w_if_icmp_ne, ↓w_if_icmp_ge, ↓w_invokevirtual_2, stw_0, stw_i, stw_l, stw_r, ofK0, ofK1, ofK2, lst1, lst2, lkill, kont_none, kont_some, Int.reduceToNat, List.length_cons, List.length_nil, Nat.reduceAdd, Nat.reduceLeDiff, Nat.zero_le, true_and, and_true, if_true, if_false, ne_eq, Int.reduceEq, Int.reduceNeg, not_false_eq_true, not_true_eq_false, ↓reduceIte, Int.reduceLT, Int.reduceLE, and_self, or_true, true_or, or_false, false_or, false_and, and_false, ah_t_w, ah_m_w, ah_n_w, lst1_0, List.tail_cons, w32_i, zbd, lst2_0, mt_1036a hM, mt_1072a hM, mt_1072b hM, mf_45 hM, mt_1077a hM, mt_1077b hM, mf_50 hM, e72, e77, hlt, h5, g1, g2, e60, e61, e10, c_243 hM h5]
        refine l_257b (BX_fail hM (by decide)) (c := S 1072 1) ?_ hc (h1 hR) (S 1072 1 - (i + 1)).toNat (i + 1) (by omega) (by omega)
        rw [ah_m_w, if_neg (by omega), ah_m_w, if_neg (by omega), e72]
      · rw [if_neg (fun q => g2 q.2)] at hR
        simp (disch := omega) only [b_257_93, q_257_154, b_257_154, ↓w_iconst, ↓w_aload_n_0, ↓w_iload_8, ↓w_iinc_8, ↓w_iadd, ↓w_imul, ↓w_getfield, ↓w_iaload, ↓w_nop, ↓w_goto, ↓w_ifCond_ne, ↓w_if_icmp_ne, ↓w_if_icmp_ge, ↓w_invokevirtual_2, stw_0, stw_i, stw_l, stw_r, ofK0, ofK1, ofK2, lst1, lst2, lkill, kont_none, kont_some, Int.reduceToNat, List.length_cons, List.length_nil, Nat.reduceAdd, Nat.reduceLeDiff, Nat.zero_le, true_and, and_true, if_true, if_false, ne_eq, Int.reduceEq, Int.reduceNeg, not_false_eq_true, not_true_eq_false, ↓reduceIte, Int.reduceLT, Int.reduceLE, and_self, or_true, true_or, or_false, false_or, false_and, and_false, ah_t_w, ah_m_w, ah_n_w, lst1_0, List.tail_cons, w32_i, zbd, lst2_0, mt_1036a hM, mt_1072a hM, mt_1072b hM, mf_45 hM, mt_1077a hM, mt_1077b hM, mf_50 hM, e72, e77, hlt, h5, g1, g2, e60, e61]
        exact ih (i + 1) (by omega) (by omega) hR
    · rw [if_neg (fun q => g1 q.1)] at hR
      simp (disch := omega) only [b_257_93, q_257_154, b_257_154, ↓w_iconst, ↓w_aload_n_0, ↓w_iload_8, ↓w_iinc_8, ↓w_iadd, ↓w_imul, ↓w_getfield, ↓w_iaload, ↓w_nop, ↓w_goto, ↓w_ifCond_ne, ↓w_if_icmp_ne, ↓w_if_icmp_ge, ↓w_invokevirtual_2, stw_0, stw_i, stw_l, stw_r, ofK0, ofK1, ofK2, lst1, lst2, lkill, kont_none, kont_some, Int.reduceToNat, List.length_cons, List.length_nil, Nat.reduceAdd, Nat.reduceLeDiff, Nat.zero_le, true_and, and_true, if_true, if_false, ne_eq, Int.reduceEq, Int.reduceNeg, not_false_eq_true, not_true_eq_false, ↓reduceIte, Int.reduceLT, Int.reduceLE, and_self, or_true, true_or, or_false, false_or, false_and, and_false, ah_t_w, ah_m_w, ah_n_w, lst1_0, List.tail_cons, w32_i, zbd, lst2_0, mt_1036a hM, mt_1072a hM, mt_1072b hM, mf_45 hM, mt_1077a hM, mt_1077b hM, mf_50 hM, e72, e77, hlt, h5, g1, e60]
      exact ih (i + 1) (by omega) (by omega) hR
theorem c_257 (hL0 : LSt t n k S h) (hC : SC S) (hD : (2 ≤ S 1074 0 ∧ S 1074 0 ≤ 5) ∧ (2 ≤ S 1074 1 ∧ S 1074 1 ≤ 5))
    (hq0 : ∀ h' kk pp, zmb t n S k bg = .inl (kk, pp) → BX kk pp h' → Off WF h h' → Q (.inl none) h')
    (hq1 : ∀ h' k' S', zmb t n S k bg = .inr (k', S') → LSt t n k' S' h' → Off WR h h' → Q (.inl none) h') : wpC (d + 7) 257 [.inr (.inr 1036), .inl bg] h Q := by
  have hM := hL0.1.1
  have hc0 := hC.1
  have hc1 := hC.2.1
  have hD0 := hD.1; have hD1 := hD.2
  have e74 := LS_r hL0 (r := 1074) (by decide)
  have e72 := LS_r hL0 (r := 1072) (by decide)
  have hz0 : ∀ u, -1 ≤ zfind S 0 u (S 1072 0).toNat 0 ∧ zfind S 0 u (S 1072 0).toNat 0 ≤ 100 := by
    intro u
    have : ∀ (j : Nat) (i : Int), 0 ≤ i → i + j ≤ 5 → -1 ≤ zfind S 0 u j i ∧ zfind S 0 u j i ≤ 100 := by
      intro j
      induction j with
      | zero => intro i _ _; simp [zfind]
      | succ j ih => intro i a b; simp only [zfind]; split; omega; exact ih _ (by omega) (by omega)
    exact this _ _ (by omega) (by omega)
  have bw : ∀ {kk pp} {h' : AH}, BX kk pp h' → BX kk pp (ah_w (ah_w h' 1036 60 0) 1036 61 0) := fun {kk pp h'} hB => ⟨MI_w (MI_w hB.1 (by unfold fre; omega)) (by unfold fre; omega), by rw [ah_m_w, if_neg (by omega), ah_m_w, if_neg (by omega)]; exact hB.2.1, by rw [ah_m_w, if_neg (by omega), ah_m_w, if_neg (by omega)]; exact hB.2.2.1, hB.2.2.2⟩
  -- at fault: what is left does nothing
  have bad93 : ∀ h' kk pp v w kd sd, BX kk pp h' → ah_m h' 1072 1 = S 1072 1 → Q (.inl none) h' → wpB (d + 6) 257 93 [some (.inr (.inr 1036)), some (.inl bg), some (.inr (.inl v)), none, some (.inr (.inl w)), none, some (.inl kd), some (.inl sd), some (.inl 0)] [] h' Q := by
    intro h' kk pp v w kd sd hB e hq
    exact l_257b hB e hc1 hq (S 1072 1).toNat 0 (by omega) (by omega)
  have bad62 : ∀ h' kk pp v w kd, BX kk pp h' → Off Wlx h h' → (∀ h'', BX kk pp h'' → Off WF h h'' → Q (.inl none) h'') → wpB (d + 6) 257 62 [some (.inr (.inr 1036)), some (.inl bg), some (.inr (.inl v)), none, some (.inr (.inl w)), none, some (.inl kd)] [] h' Q := by
    intro h' kk pp v w kd hB hO hq
    have e74' : ah_m h' 1074 = S 1074 := by rw [Off_r hO (fun i w => by unfold Wlx at w; omega)]; exact e74
    have b58 := fun {Q} => b_258 (Q := Q) (d := d + 4) hB (by rw [e74']; omega) (by rw [e74']; omega)
    have hB2 := bw hB
    simp (disch := omega) only [q_257_62, b_257_62, ↓w_iconst, ↓w_aload_n_0, ↓w_istore, ↓w_getfield, ↓w_nop, ↓w_invokevirtual_0, ↓w_invokevirtual_1, ↓w_invokevirtual_2, stw_0, stw_i, stw_l, stw_r, ofK0, ofK1, ofK2, lst1, lst2, lkill, kont_none, kont_some, Int.reduceToNat, List.length_cons, List.length_nil, Nat.reduceAdd, Nat.reduceLeDiff, Nat.zero_le, true_and, and_true, if_true, if_false, ne_eq, Int.reduceEq, Int.reduceNeg, not_false_eq_true, not_true_eq_false, ↓reduceIte, Int.reduceLT, Int.reduceLE, and_self, or_true, true_or, or_false, false_or, false_and, and_false, ah_t_w, ah_m_w, ah_n_w, lst1_0, List.tail_cons, w32_i, zbd, lst2_0, mt_1036a hB.1, mt_1050a hB.1, mt_1050b hB.1, mf_22 hB.1, mt_1051a hB.1, mt_1051b hB.1, mf_23 hB.1, b_238 hB, b_244 hB, b58]
    refine bad93 _ kk pp _ _ _ _ hB2 ?_ (hq _ hB2 (Off_w (Off_w (Off_mono (fun r i w => Or.inl w) hO) (by unfold WF; omega)) (by unfold WF; omega)))
    rw [ah_m_w, if_neg (by omega), ah_m_w, if_neg (by omega), hO.2 _ _ (by unfold Wlx; omega), e72]
  have bad55 : ∀ {h' : AH} {u : Int} {Q : QQ}, MI h' → Off Wlx h h' → (wpC (d + 6) 255 [.inr (.inr 1036), .inl 0, .inr (.inl u)] h' Q ↔ Q (.inl (some (.inl (zfind S 0 u (S 1072 0).toNat 0)))) h') := by
    intro h' u Q hM' hO
    exact c_255 hM' (by rw [stt_off hO (fun r i w g => by unfold Wlx at w; omega)]; exact hL0.2) (by decide) ⟨hc0.1, by omega⟩
  unfold zmb at hq0 hq1
  rw [wpC_B]; refine ⟨⟨Nat.zero_lt_succ _, Nat.le_of_ble_eq_true rfl⟩, ?_⟩; simp only [lent]
  simp (disch := omega) only [q_257_0, b_257_0, ↓w_iconst, ↓w_bipush, ↓w_aload_n_0, ↓w_iload_n_1, ↓w_ifCond_eq, ↓w_return, ↓w_invokevirtual_3, stw_0, stw_i, stw_l, stw_r, ofK0, ofK1, ofK2, lst1, lst2, lkill, kont_none, kont_some, Int.reduceToNat, List.length_cons, List.length_nil, Nat.reduceAdd, Nat.reduceLeDiff, Nat.zero_le, true_and, and_true, if_true, if_false, ne_eq, Int.reduceEq, Int.reduceNeg, not_false_eq_true, not_true_eq_false, ↓reduceIte, Int.reduceLT, Int.reduceLE, and_self, or_true, true_or, or_false, false_or, false_and, and_false, ah_t_w, ah_m_w, ah_n_w, lst1_0, List.tail_cons, w32_i, zbd, lst2_0, mt_1036a hM]
  refine c_251 hL0 (by decide) (fun g => ?_) (fun g => ?_)
  · simp (disch := omega) only [b_257_0, ↓w_iconst, ↓w_bipush, ↓w_aload_n_0, ↓w_iload_n_1, ↓w_ifCond_eq, ↓w_return, ↓w_invokevirtual_3, stw_0, stw_i, stw_l, stw_r, ofK0, ofK1, ofK2, lst1, lst2, lkill, kont_none, kont_some, Int.reduceToNat, List.length_cons, List.length_nil, Nat.reduceAdd, Nat.reduceLeDiff, Nat.zero_le, true_and, and_true, if_true, if_false, ne_eq, Int.reduceEq, Int.reduceNeg, not_false_eq_true, not_true_eq_false, ↓reduceIte, Int.reduceLT, Int.reduceLE, and_self, or_true, true_or, or_false, false_or, false_and, and_false, ah_t_w, ah_m_w, ah_n_w, lst1_0, List.tail_cons, w32_i, zbd, lst2_0]
    exact hq0 _ 5 bg (by rw [if_pos g]) (BX_fail hM (by decide)) (Off_w (Off_w Off_rfl (by unfold WF Wlx; omega)) (by unfold WF Wlx; omega))
  · rw [if_neg g] at hq0 hq1
    simp (disch := omega) only [b_257_0, q_257_12, b_257_12, ↓w_iconst, ↓w_bipush, ↓w_aload_n_0, ↓w_iload_n_1, ↓w_lload_4, ↓w_iload_6, ↓w_istore, ↓w_lstore, ↓w_lstore_n_2, ↓w_getfield, ↓w_nop, ↓w_ifCond_eq, ↓w_ifCond_ne, ↓w_if_icmp_ne, ↓w_return, ↓w_invokevirtual_0, ↓w_invokevirtual_1, ↓w_invokevirtual_2, ↓w_invokevirtual_3, stw_0, stw_i, stw_l, stw_r, ofK0, ofK1, ofK2, lst1, lst2, lkill, kont_none, kont_some, Int.reduceToNat, List.length_cons, List.length_nil, Nat.reduceAdd, Nat.reduceLeDiff, Nat.zero_le, true_and, and_true, if_true, if_false, ne_eq, Int.reduceEq, Int.reduceNeg, not_false_eq_true, not_true_eq_false, ↓reduceIte, Int.reduceLT, Int.reduceLE, and_self, or_true, true_or, or_false, false_or, false_and, and_false, ah_t_w, ah_m_w, ah_n_w, lst1_0, List.tail_cons, w32_i, zbd, lst2_0, mt_1036a hM, mt_1049a hM, mt_1049b hM, mf_21 hM]
    refine c_252 hL0 hC (fun h1 z kk pp e hB hO => ?_) (fun h1 q1 v e1 hL1 hO1 => ?_)
    · have eb5 := hB.2.1; have hbk := hB.2.2.2
      simp (disch := omega) only [b_257_12, ↓w_iconst, ↓w_aload_n_0, ↓w_lload_4, ↓w_iload_6, ↓w_istore, ↓w_lstore, ↓w_lstore_n_2, ↓w_getfield, ↓w_nop, ↓w_ifCond_ne, ↓w_if_icmp_ne, ↓w_invokevirtual_0, ↓w_invokevirtual_1, ↓w_invokevirtual_2, stw_0, stw_i, stw_l, stw_r, ofK0, ofK1, ofK2, lst1, lst2, lkill, kont_none, kont_some, Int.reduceToNat, List.length_cons, List.length_nil, Nat.reduceAdd, Nat.reduceLeDiff, Nat.zero_le, true_and, and_true, if_true, if_false, ne_eq, Int.reduceEq, Int.reduceNeg, not_false_eq_true, not_true_eq_false, ↓reduceIte, Int.reduceLT, Int.reduceLE, and_self, or_true, true_or, or_false, false_or, false_and, and_false, ah_t_w, ah_m_w, ah_n_w, lst1_0, List.tail_cons, w32_i, zbd, lst2_0, mt_1036a hB.1, mt_1049a hB.1, mt_1049b hB.1, mf_21 hB.1, eb5, hbk, b_238 hB, b_253 hB, bad55 hB.1 hO]
      exact bad62 h1 kk pp _ _ _ hB hO (fun h'' a b => hq0 h'' kk pp (by simp only [e, zth]) a b)
    simp (disch := omega) only [b_257_12, ↓w_iconst, ↓w_aload_n_0, ↓w_lload_4, ↓w_iload_6, ↓w_istore, ↓w_lstore, ↓w_lstore_n_2, ↓w_getfield, ↓w_nop, ↓w_ifCond_ne, ↓w_if_icmp_ne, ↓w_invokevirtual_0, ↓w_invokevirtual_1, ↓w_invokevirtual_2, stw_0, stw_i, stw_l, stw_r, ofK0, ofK1, ofK2, lst1, lst2, lkill, kont_none, kont_some, Int.reduceToNat, List.length_cons, List.length_nil, Nat.reduceAdd, Nat.reduceLeDiff, Nat.zero_le, true_and, and_true, if_true, if_false, ne_eq, Int.reduceEq, Int.reduceNeg, not_false_eq_true, not_true_eq_false, ↓reduceIte, Int.reduceLT, Int.reduceLE, and_self, or_true, true_or, or_false, false_or, false_and, and_false, ah_t_w, ah_m_w, ah_n_w, lst1_0, List.tail_cons, w32_i, zbd, lst2_0, mt_1036a hL1.1.1, mt_1049a hL1.1.1, mt_1049b hL1.1.1, mf_21 hL1.1.1]
    refine c_238 hL1.1 (wb_1049 hL1.1.1) (by decide) (by decide) (fun h2 e hB hO => ?_) (fun h2 e hX2 hO => ?_)
    · have e := zask1_f e
      have eb5 := hB.2.1
      have hO2 := Off_tr hO1 hO
      simp (disch := omega) only [b_257_12, ↓w_iconst, ↓w_aload_n_0, ↓w_lload_4, ↓w_iload_6, ↓w_istore, ↓w_lstore, ↓w_lstore_n_2, ↓w_getfield, ↓w_nop, ↓w_ifCond_ne, ↓w_if_icmp_ne, ↓w_invokevirtual_0, ↓w_invokevirtual_1, ↓w_invokevirtual_2, stw_0, stw_i, stw_l, stw_r, ofK0, ofK1, ofK2, lst1, lst2, lkill, kont_none, kont_some, Int.reduceToNat, List.length_cons, List.length_nil, Nat.reduceAdd, Nat.reduceLeDiff, Nat.zero_le, true_and, and_true, if_true, if_false, ne_eq, Int.reduceEq, Int.reduceNeg, not_false_eq_true, not_true_eq_false, ↓reduceIte, Int.reduceLT, Int.reduceLE, and_self, or_true, true_or, or_false, false_or, false_and, and_false, ah_t_w, ah_m_w, ah_n_w, lst1_0, List.tail_cons, w32_i, zbd, lst2_0, mt_1036a hB.1, mt_1049a hB.1, mt_1049b hB.1, mf_21 hB.1, eb5, b_253 hB, bad55 hB.1 hO2]
      exact bad62 h2 _ _ _ _ _ hB hO2 (fun h'' a b => hq0 h'' _ _ (by simp only [e1, e, zth]) a b)
    have e2 := zask1_t e
    have hO2 := Off_tr hO1 hO
    have hL2 := LS_lx hL1 hX2 hO (fun r i w => w)
    clear e hO
    generalize zsk t n q1 + (([105, 115] : List Int).length : Int) = k2 at *
    simp (disch := omega) only [b_257_12, ↓w_iconst, ↓w_aload_n_0, ↓w_lload_4, ↓w_iload_6, ↓w_istore, ↓w_lstore, ↓w_lstore_n_2, ↓w_getfield, ↓w_nop, ↓w_ifCond_ne, ↓w_if_icmp_ne, ↓w_invokevirtual_0, ↓w_invokevirtual_1, ↓w_invokevirtual_2, stw_0, stw_i, stw_l, stw_r, ofK0, ofK1, ofK2, lst1, lst2, lkill, kont_none, kont_some, Int.reduceToNat, List.length_cons, List.length_nil, Nat.reduceAdd, Nat.reduceLeDiff, Nat.zero_le, true_and, and_true, if_true, if_false, ne_eq, Int.reduceEq, Int.reduceNeg, not_false_eq_true, not_true_eq_false, ↓reduceIte, Int.reduceLT, Int.reduceLE, and_self, or_true, true_or, or_false, false_or, false_and, and_false, ah_t_w, ah_m_w, ah_n_w, lst1_0, List.tail_cons, w32_i, zbd, lst2_0, mt_1036a hL2.1.1, mt_1049a hL2.1.1, mt_1049b hL2.1.1, mf_21 hL2.1.1]
    refine c_253 hL2.1 (fun h3 z kk pp e hB hO => ?_) (fun h3 q3 u e3 hX3 hO e44 => ?_)
    · have eb5 := hB.2.1; have hbk := hB.2.2.2
      have hO3 := Off_tr hO2 hO
      simp (disch := omega) only [b_257_12, ↓w_iconst, ↓w_aload_n_0, ↓w_lload_4, ↓w_iload_6, ↓w_istore, ↓w_lstore, ↓w_lstore_n_2, ↓w_getfield, ↓w_nop, ↓w_ifCond_ne, ↓w_if_icmp_ne, ↓w_invokevirtual_0, ↓w_invokevirtual_1, ↓w_invokevirtual_2, stw_0, stw_i, stw_l, stw_r, ofK0, ofK1, ofK2, lst1, lst2, lkill, kont_none, kont_some, Int.reduceToNat, List.length_cons, List.length_nil, Nat.reduceAdd, Nat.reduceLeDiff, Nat.zero_le, true_and, and_true, if_true, if_false, ne_eq, Int.reduceEq, Int.reduceNeg, not_false_eq_true, not_true_eq_false, ↓reduceIte, Int.reduceLT, Int.reduceLE, and_self, or_true, true_or, or_false, false_or, false_and, and_false, ah_t_w, ah_m_w, ah_n_w, lst1_0, List.tail_cons, w32_i, zbd, lst2_0, mt_1036a hB.1, mt_1049a hB.1, mt_1049b hB.1, mf_21 hB.1, eb5, hbk, bad55 hB.1 hO3]
      exact bad62 h3 kk pp _ _ _ hB hO3 (fun h'' a b => hq0 h'' kk pp (by simp only [e1, e2, e, zth]) a b)
    have hO3 := Off_tr hO2 hO
    have hL3 := LS_lx hL2 hX3 hO (fun r i w => w)
    clear hO
    simp only [e1, e2, e3, zth] at hq0 hq1
    have h53 := hX3.2.2.2.2.1
    have hM3 := hX3.1
    have hzu := hz0 u
    by_cases gk : zfind S 0 u (S 1072 0).toNat 0 = -1
    · rw [if_pos gk] at hq0
      simp (disch := omega) only [b_257_12, ↓w_iconst, ↓w_aload_n_0, ↓w_lload_4, ↓w_iload_6, ↓w_istore, ↓w_lstore, ↓w_lstore_n_2, ↓w_getfield, ↓w_nop, ↓w_ifCond_ne, ↓w_if_icmp_ne, ↓w_invokevirtual_0, ↓w_invokevirtual_1, ↓w_invokevirtual_2, stw_0, stw_i, stw_l, stw_r, ofK0, ofK1, ofK2, lst1, lst2, lkill, kont_none, kont_some, Int.reduceToNat, List.length_cons, List.length_nil, Nat.reduceAdd, Nat.reduceLeDiff, Nat.zero_le, true_and, and_true, if_true, if_false, ne_eq, Int.reduceEq, Int.reduceNeg, not_false_eq_true, not_true_eq_false, ↓reduceIte, Int.reduceLT, Int.reduceLE, and_self, or_true, true_or, or_false, false_or, false_and, and_false, ah_t_w, ah_m_w, ah_n_w, lst1_0, List.tail_cons, w32_i, zbd, lst2_0, mt_1036a hX3.1, mt_1049a hX3.1, mt_1049b hX3.1, mf_21 hX3.1, h53, bad55 hM3 hO3, gk, e44, c_243 hM3 h53]
      exact bad62 _ 3 _ _ _ _ (BX_fail hM3 (by decide)) (Off_w (Off_w hO3 (by unfold Wlx; omega)) (by unfold Wlx; omega)) (fun h'' a b => hq0 h'' _ _ rfl a b)
    rw [if_neg gk] at hq0 hq1
    simp (disch := omega) only [b_257_12, q_257_62, b_257_62, ↓w_iconst, ↓w_aload_n_0, ↓w_lload_4, ↓w_iload_6, ↓w_istore, ↓w_lstore, ↓w_lstore_n_2, ↓w_getfield, ↓w_nop, ↓w_ifCond_ne, ↓w_if_icmp_ne, ↓w_invokevirtual_0, ↓w_invokevirtual_1, ↓w_invokevirtual_2, stw_0, stw_i, stw_l, stw_r, ofK0, ofK1, ofK2, lst1, lst2, lkill, kont_none, kont_some, Int.reduceToNat, List.length_cons, List.length_nil, Nat.reduceAdd, Nat.reduceLeDiff, Nat.zero_le, true_and, and_true, if_true, if_false, ne_eq, Int.reduceEq, Int.reduceNeg, not_false_eq_true, not_true_eq_false, ↓reduceIte, Int.reduceLT, Int.reduceLE, and_self, or_true, true_or, or_false, false_or, false_and, and_false, ah_t_w, ah_m_w, ah_n_w, lst1_0, List.tail_cons, w32_i, zbd, lst2_0, mt_1036a hX3.1, mt_1049a hX3.1, mt_1049b hX3.1, mf_21 hX3.1, mt_1050a hX3.1, mt_1050b hX3.1, mf_22 hX3.1, mt_1051a hX3.1, mt_1051b hX3.1, mf_23 hX3.1, h53, bad55 hM3 hO3, gk]
    generalize zfind S 0 u (S 1072 0).toNat 0 = kd at *
    refine c_238 hL3.1 (wb_1050 hL3.1.1) (by decide) (by decide) (fun h4 e hB hO => ?_) (fun h4 e hX4 hO => ?_)
    · have e := zask1_f e
      have hO4 := Off_tr hO3 hO
      have e74' : ah_m h4 1074 = S 1074 := by rw [Off_r hO4 (fun i w => by unfold Wlx at w; omega)]; exact e74
      have b58 := fun {Q} => b_258 (Q := Q) (d := d + 4) hB (by rw [e74']; omega) (by rw [e74']; omega)
      have hB2 := bw hB
      simp (disch := omega) only [b_257_62, ↓w_iconst, ↓w_aload_n_0, ↓w_istore, ↓w_getfield, ↓w_nop, ↓w_invokevirtual_0, ↓w_invokevirtual_1, ↓w_invokevirtual_2, stw_0, stw_i, stw_l, stw_r, ofK0, ofK1, ofK2, lst1, lst2, lkill, kont_none, kont_some, Int.reduceToNat, List.length_cons, List.length_nil, Nat.reduceAdd, Nat.reduceLeDiff, Nat.zero_le, true_and, and_true, if_true, if_false, ne_eq, Int.reduceEq, Int.reduceNeg, not_false_eq_true, not_true_eq_false, ↓reduceIte, Int.reduceLT, Int.reduceLE, and_self, or_true, true_or, or_false, false_or, false_and, and_false, ah_t_w, ah_m_w, ah_n_w, lst1_0, List.tail_cons, w32_i, zbd, lst2_0, mt_1036a hB.1, mt_1050a hB.1, mt_1050b hB.1, mf_22 hB.1, mt_1051a hB.1, mt_1051b hB.1, mf_23 hB.1, b_238 hB, b_244 hB, b58]
      refine bad93 _ _ _ _ _ _ _ hB2 ?_ (hq0 _ _ _ (by simp only [e]) hB2 (Off_w (Off_w (Off_mono (fun r i w => Or.inl w) hO4) (by unfold WF; omega)) (by unfold WF; omega)))
      rw [ah_m_w, if_neg (by omega), ah_m_w, if_neg (by omega), hO4.2 _ _ (by unfold Wlx; omega), e72]
    have e4 := zask1_t e
    have hO4 := Off_tr hO3 hO
    have hL4 := LS_lx hL3 hX4 hO (fun r i w => w)
    clear e hO
    simp only [e4] at hq0 hq1
    simp (disch := omega) only [b_257_62, ↓w_iconst, ↓w_aload_n_0, ↓w_istore, ↓w_getfield, ↓w_nop, ↓w_invokevirtual_0, ↓w_invokevirtual_1, ↓w_invokevirtual_2, stw_0, stw_i, stw_l, stw_r, ofK0, ofK1, ofK2, lst1, lst2, lkill, kont_none, kont_some, Int.reduceToNat, List.length_cons, List.length_nil, Nat.reduceAdd, Nat.reduceLeDiff, Nat.zero_le, true_and, and_true, if_true, if_false, ne_eq, Int.reduceEq, Int.reduceNeg, not_false_eq_true, not_true_eq_false, ↓reduceIte, Int.reduceLT, Int.reduceLE, and_self, or_true, true_or, or_false, false_or, false_and, and_false, ah_t_w, ah_m_w, ah_n_w, lst1_0, List.tail_cons, w32_i, zbd, lst2_0, mt_1036a hL4.1.1, mt_1050a hL4.1.1, mt_1050b hL4.1.1, mf_22 hL4.1.1, mt_1051a hL4.1.1, mt_1051b hL4.1.1, mf_23 hL4.1.1]
    refine c_244 hL4.1 (by decide) (by decide) (fun h5 z kk pp e hB hO => ?_) (fun h5 q5 sd e5 hX5 hO _ => ?_)
    · have hO5 := Off_tr hO4 hO
      have e74' : ah_m h5 1074 = S 1074 := by rw [Off_r hO5 (fun i w => by unfold Wlx at w; omega)]; exact e74
      have b58 := fun {Q} => b_258 (Q := Q) (d := d + 4) hB (by rw [e74']; omega) (by rw [e74']; omega)
      have hB2 := bw hB
      simp (disch := omega) only [b_257_62, ↓w_iconst, ↓w_aload_n_0, ↓w_istore, ↓w_getfield, ↓w_nop, ↓w_invokevirtual_0, ↓w_invokevirtual_1, ↓w_invokevirtual_2, stw_0, stw_i, stw_l, stw_r, ofK0, ofK1, ofK2, lst1, lst2, lkill, kont_none, kont_some, Int.reduceToNat, List.length_cons, List.length_nil, Nat.reduceAdd, Nat.reduceLeDiff, Nat.zero_le, true_and, and_true, if_true, if_false, ne_eq, Int.reduceEq, Int.reduceNeg, not_false_eq_true, not_true_eq_false, ↓reduceIte, Int.reduceLT, Int.reduceLE, and_self, or_true, true_or, or_false, false_or, false_and, and_false, ah_t_w, ah_m_w, ah_n_w, lst1_0, List.tail_cons, w32_i, zbd, lst2_0, mt_1036a hB.1, mt_1050a hB.1, mt_1050b hB.1, mf_22 hB.1, mt_1051a hB.1, mt_1051b hB.1, mf_23 hB.1, b_238 hB, b58]
      refine bad93 _ _ _ _ _ _ _ hB2 ?_ (hq0 _ _ _ (by simp only [e]) hB2 (Off_w (Off_w (Off_mono (fun r i w => Or.inl w) hO5) (by unfold WF; omega)) (by unfold WF; omega)))
      rw [ah_m_w, if_neg (by omega), ah_m_w, if_neg (by omega), hO5.2 _ _ (by unfold Wlx; omega), e72]
    have hO5 := Off_tr hO4 hO
    have hL5 := LS_lx hL4 hX5 hO (fun r i w => w)
    clear hO
    simp only [e5] at hq0 hq1
    simp (disch := omega) only [b_257_62, ↓w_iconst, ↓w_aload_n_0, ↓w_istore, ↓w_getfield, ↓w_nop, ↓w_invokevirtual_0, ↓w_invokevirtual_1, ↓w_invokevirtual_2, stw_0, stw_i, stw_l, stw_r, ofK0, ofK1, ofK2, lst1, lst2, lkill, kont_none, kont_some, Int.reduceToNat, List.length_cons, List.length_nil, Nat.reduceAdd, Nat.reduceLeDiff, Nat.zero_le, true_and, and_true, if_true, if_false, ne_eq, Int.reduceEq, Int.reduceNeg, not_false_eq_true, not_true_eq_false, ↓reduceIte, Int.reduceLT, Int.reduceLE, and_self, or_true, true_or, or_false, false_or, false_and, and_false, ah_t_w, ah_m_w, ah_n_w, lst1_0, List.tail_cons, w32_i, zbd, lst2_0, mt_1036a hL5.1.1, mt_1050a hL5.1.1, mt_1050b hL5.1.1, mf_22 hL5.1.1, mt_1051a hL5.1.1, mt_1051b hL5.1.1, mf_23 hL5.1.1]
    refine c_238 hL5.1 (wb_1051 hL5.1.1) (by decide) (by decide) (fun h6 e hB hO => ?_) (fun h6 e hX6 hO => ?_)
    · have e := zask1_f e
      have hO6 := Off_tr hO5 hO
      have e74' : ah_m h6 1074 = S 1074 := by rw [Off_r hO6 (fun i w => by unfold Wlx at w; omega)]; exact e74
      have b58 := fun {Q} => b_258 (Q := Q) (d := d + 4) hB (by rw [e74']; omega) (by rw [e74']; omega)
      have hB2 := bw hB
      simp (disch := omega) only [b_257_62, ↓w_iconst, ↓w_aload_n_0, ↓w_istore, ↓w_getfield, ↓w_nop, ↓w_invokevirtual_0, ↓w_invokevirtual_1, ↓w_invokevirtual_2, stw_0, stw_i, stw_l, stw_r, ofK0, ofK1, ofK2, lst1, lst2, lkill, kont_none, kont_some, Int.reduceToNat, List.length_cons, List.length_nil, Nat.reduceAdd, Nat.reduceLeDiff, Nat.zero_le, true_and, and_true, if_true, if_false, ne_eq, Int.reduceEq, Int.reduceNeg, not_false_eq_true, not_true_eq_false, ↓reduceIte, Int.reduceLT, Int.reduceLE, and_self, or_true, true_or, or_false, false_or, false_and, and_false, ah_t_w, ah_m_w, ah_n_w, lst1_0, List.tail_cons, w32_i, zbd, lst2_0, mt_1036a hB.1, mt_1050a hB.1, mt_1050b hB.1, mf_22 hB.1, mt_1051a hB.1, mt_1051b hB.1, mf_23 hB.1, b58]
      refine bad93 _ _ _ _ _ _ _ hB2 ?_ (hq0 _ _ _ (by simp only [e]) hB2 (Off_w (Off_w (Off_mono (fun r i w => Or.inl w) hO6) (by unfold WF; omega)) (by unfold WF; omega)))
      rw [ah_m_w, if_neg (by omega), ah_m_w, if_neg (by omega), hO6.2 _ _ (by unfold Wlx; omega), e72]
    have e6 := zask1_t e
    have hO6 := Off_tr hO5 hO
    have hL6 := LS_lx hL5 hX6 hO (fun r i w => w)
    clear e hO
    simp only [e6] at hq0 hq1
    simp (disch := omega) only [b_257_62, ↓w_iconst, ↓w_aload_n_0, ↓w_istore, ↓w_getfield, ↓w_nop, ↓w_invokevirtual_0, ↓w_invokevirtual_1, ↓w_invokevirtual_2, stw_0, stw_i, stw_l, stw_r, ofK0, ofK1, ofK2, lst1, lst2, lkill, kont_none, kont_some, Int.reduceToNat, List.length_cons, List.length_nil, Nat.reduceAdd, Nat.reduceLeDiff, Nat.zero_le, true_and, and_true, if_true, if_false, ne_eq, Int.reduceEq, Int.reduceNeg, not_false_eq_true, not_true_eq_false, ↓reduceIte, Int.reduceLT, Int.reduceLE, and_self, or_true, true_or, or_false, false_or, false_and, and_false, ah_t_w, ah_m_w, ah_n_w, lst1_0, List.tail_cons, w32_i, zbd, lst2_0, mt_1036a hL6.1.1, mt_1050a hL6.1.1, mt_1050b hL6.1.1, mf_22 hL6.1.1, mt_1051a hL6.1.1, mt_1051b hL6.1.1, mf_23 hL6.1.1]
    refine c_258 hL6 hD (fun h7 kk pp e hB hst hO => ?_) (fun h7 q7 x y pl e7 hL7 hO e60 e61 e10 => ?_)
    · simp (disch := omega) only [b_257_62, ↓w_iconst, ↓w_aload_n_0, ↓w_istore, ↓w_getfield, ↓w_nop, ↓w_invokevirtual_0, ↓w_invokevirtual_1, ↓w_invokevirtual_2, stw_0, stw_i, stw_l, stw_r, ofK0, ofK1, ofK2, lst1, lst2, lkill, kont_none, kont_some, Int.reduceToNat, List.length_cons, List.length_nil, Nat.reduceAdd, Nat.reduceLeDiff, Nat.zero_le, true_and, and_true, if_true, if_false, ne_eq, Int.reduceEq, Int.reduceNeg, not_false_eq_true, not_true_eq_false, ↓reduceIte, Int.reduceLT, Int.reduceLE, and_self, or_true, true_or, or_false, false_or, false_and, and_false, ah_t_w, ah_m_w, ah_n_w, lst1_0, List.tail_cons, w32_i, zbd, lst2_0]
      refine bad93 h7 kk pp _ _ _ _ hB ?_ (hq0 _ _ _ (by simp only [e]) hB (Off_tr (Off_mono (fun r i w => Or.inl w) hO6) hO))
      rw [stt_r (h := h7) (by decide) (by decide), hst]
    have hO7 : Off WF h h7 := Off_tr (Off_mono (fun r i w => Or.inl w) hO6) hO
    simp only [e7] at hq0 hq1
    simp (disch := omega) only [b_257_62, ↓w_iconst, ↓w_aload_n_0, ↓w_istore, ↓w_getfield, ↓w_nop, ↓w_invokevirtual_0, ↓w_invokevirtual_1, ↓w_invokevirtual_2, stw_0, stw_i, stw_l, stw_r, ofK0, ofK1, ofK2, lst1, lst2, lkill, kont_none, kont_some, Int.reduceToNat, List.length_cons, List.length_nil, Nat.reduceAdd, Nat.reduceLeDiff, Nat.zero_le, true_and, and_true, if_true, if_false, ne_eq, Int.reduceEq, Int.reduceNeg, not_false_eq_true, not_true_eq_false, ↓reduceIte, Int.reduceLT, Int.reduceLE, and_self, or_true, true_or, or_false, false_or, false_and, and_false, ah_t_w, ah_m_w, ah_n_w, lst1_0, List.tail_cons, w32_i, zbd, lst2_0]
    refine l_257 hL7 hC e60 e61 e10 (fun gd => ?_) (fun gd => ?_) (S 1072 1).toNat 0 (by omega) (by omega) rfl
    · rw [if_pos gd] at hq0
      exact hq0 _ 2 pl rfl (BX_fail hL7.1.1 (by decide)) (Off_w (Off_w hO7 (by unfold WF Wlx; omega)) (by unfold WF Wlx; omega))
    · rw [gd, if_neg (by decide)] at hq1
      have h57 := hL7.1.2.2.2.2.1
      have c56 := fun {Q} => c_256 (Q := Q) (d := d + 5) (a := 1) (v := v) hL7 (by decide) ⟨hc1.1, by omega⟩
      simp (disch := omega) only [q_257_160, b_257_160, q_257_168, b_257_168, ↓w_iconst, ↓w_aload_n_0, ↓w_lload_n_2, ↓w_iload_6, ↓w_iload_7, ↓w_iload_8, ↓w_istore, ↓w_iadd, ↓w_imul, ↓w_getfield, ↓w_iastore, ↓w_ifCond_eq, ↓w_return, ↓w_invokevirtual_2, stw_0, stw_i, stw_l, stw_r, ofK0, ofK1, ofK2, lst1, lst2, lkill, kont_none, kont_some, Int.reduceToNat, List.length_cons, List.length_nil, Nat.reduceAdd, Nat.reduceLeDiff, Nat.zero_le, true_and, and_true, if_true, if_false, ne_eq, Int.reduceEq, Int.reduceNeg, not_false_eq_true, not_true_eq_false, ↓reduceIte, Int.reduceLT, Int.reduceLE, and_self, or_true, true_or, or_false, false_or, false_and, and_false, ah_t_w, ah_m_w, ah_n_w, lst1_0, List.tail_cons, w32_i, zbd, lst2_0, mt_1036a hL7.1.1, mt_1076a hL7.1.1, mt_1076b hL7.1.1, mf_49 hL7.1.1, mt_1077a hL7.1.1, mt_1077b hL7.1.1, mf_50 hL7.1.1, h57, c56, e60, e61]
      refine hq1 _ _ _ rfl (LS_w (LS_w (LS_w (LS_w (LS_add hL7) (by decide)) (by decide)) (by decide)) (by decide)) (Off_w (Off_w (Off_w (Off_w (Off_w (Off_w (Off_mono (fun r i w => WF_R w) hO7) ?_) ?_) ?_) ?_) ?_) ?_) <;> (unfold WR LO; omega)
end BRD3
