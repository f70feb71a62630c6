/-! ===== M: a statement; the first one (printed by gen_994.py) ===== -/
section BRD5
variable {d : Nat} {h h0 : AH} {Q : QQ} {x y z m k s l w a b c v n p r o lo hi bg : Int} {S : Int → Int → Int} {t : Int → Int} {cs : List Int}
set_option maxHeartbeats 4000000
theorem BX_o {kk pp i : Int} (hB : BX kk pp h) (hi : i = 57 ∨ i = 56 ∨ i = 7 ∨ i = 8) : BX kk pp (ah_w h 1036 i v) :=
  ⟨MI_w hB.1 (by unfold fre; omega), by rw [ah_m_w, if_neg (by omega)]; exact hB.2.1, by rw [ah_m_w, if_neg (by omega)]; exact hB.2.2.1, hB.2.2.2⟩
theorem BX_s {kk pp i : Int} (hB : BX kk pp h) (hr : 1072 ≤ r ∧ r ≤ 1082) : BX kk pp (ah_w h r i v) :=
  ⟨MI_w hB.1 (by unfold fre; omega), by rw [ah_m_w, if_neg (by omega)]; exact hB.2.1, by rw [ah_m_w, if_neg (by omega)]; exact hB.2.2.1, hB.2.2.2⟩
theorem Off_RR {h' h'' : AH} (a : Off WR h h') (b : Off Wlx h' h'') : Off WR h h'' := Off_tr a (Off_mono (fun r i w => Or.inl w) b)
theorem c_249 (hB0 : LB t n k S c h) (hs : zsk t n k = k) (hP : SP S) (hc : 1 ≤ c ∧ c ≤ 60)
    (hq0 : ∀ h' kk pp, zstm t n S c k = .inl (kk, pp) → BX kk pp h' → SRg (stt h') → Off WB2 h h' → Q (.inl none) h')
    (hq1 : ∀ h' k' S', zstm t n S c k = .inr (k', S') → LB t n k' S' (c + 1) h' → Off WB2 h h' → Q (.inl none) h') : wpC (d + 9) 249 [.inr (.inr 1036)] h Q := by
  have hL := hB0.1
  have hC := hP.1
  have hD := hP.2.1
  have hR : SRg S := hP.2.2.2.1
  have hRs : ∀ h', (stt h' = S) → SRg (stt h') := fun h' e => by rw [e]; exact hR
  have hRw : ∀ h' i v, stt h' = S → SRg (stt (ah_w h' 1079 i v)) := fun h' i v e => by rw [stt_w (by decide), e]; exact SRg_c hR (fun r j p q u => zw_o (by omega))
  have hX := hL.1
  have hM := hX.1
  have h5 := hX.2.2.2.2.1
  have e2 := hX.2.2.2.1
  have e57 := hB0.2.1
  unfold zstm at hq0 hq1
  rw [wpC_B]; refine ⟨⟨Nat.zero_lt_succ _, Nat.le_of_ble_eq_true rfl⟩, ?_⟩; simp only [lent]
  by_cases g60 : c = 60
  · rw [if_pos g60] at hq0
    simp (disch := omega) only [q_249_0, b_249_0, ↓w_iconst, ↓w_bipush, ↓w_aload_n_0, ↓w_iload_n_1, ↓w_istore_n_1, ↓w_getfield, ↓w_if_icmp_ne, ↓w_return, ↓w_invokevirtual_2, stw_0, stw_i, stw_l, stw_r, ofK0, ofK1, ofK2, lst1, lst2, lkill, kont_none, kont_some, Int.reduceToNat, List.length_cons, List.length_nil, Nat.reduceAdd, Nat.reduceLeDiff, Nat.zero_le, true_and, and_true, if_true, if_false, ne_eq, Int.reduceEq, Int.reduceNeg, not_false_eq_true, not_true_eq_false, ↓reduceIte, Int.reduceLT, Int.reduceLE, and_self, or_true, true_or, or_false, false_or, false_and, and_false, ah_t_w, ah_m_w, ah_n_w, lst1_0, List.tail_cons, w32_i, zbd, lst2_0, mt_1036a hM, e2, e57, g60, c_243 hM h5]
    exact hq0 _ 5 k rfl (BX_fail hM (by decide)) (hRs _ (by rw [stt_o (by decide), stt_o (by decide)]; exact hL.2)) (Off_w (Off_w Off_rfl (by unfold WB2 WR Wlx LO; omega)) (by unfold WB2 WR Wlx LO; omega))
  · rw [if_neg g60] at hq0 hq1
    -- at fault
    have bad145 : ∀ h' kk pp, zstb t n S k = .inl (kk, pp) → BX kk pp h' → SRg (stt h') → ah_m h' 1036 57 = c → Off WB2 h h' → wpB (d + 8) 249 145 [some (.inr (.inr 1036)), some (.inl k)] [] h' Q := by
      intro h' kk pp e hB hR' f57 hO
      simp (disch := omega) only [q_249_145, b_249_145, ↓w_iconst, ↓w_bipush, ↓w_aload_n_0, ↓w_dup_i, ↓w_dup_a, ↓w_iadd, ↓w_getfield, ↓w_putfield_0, ↓w_return, ↓w_invokevirtual_1, stw_0, stw_i, stw_l, stw_r, ofK0, ofK1, ofK2, lst1, lst2, lkill, kont_none, kont_some, Int.reduceToNat, List.length_cons, List.length_nil, Nat.reduceAdd, Nat.reduceLeDiff, Nat.zero_le, true_and, and_true, if_true, if_false, ne_eq, Int.reduceEq, Int.reduceNeg, not_false_eq_true, not_true_eq_false, ↓reduceIte, Int.reduceLT, Int.reduceLE, and_self, or_true, true_or, or_false, false_or, false_and, and_false, ah_t_w, ah_m_w, ah_n_w, lst1_0, List.tail_cons, w32_i, zbd, lst2_0, mt_1036a hB.1, b_247 hB, f57]
      exact hq0 _ kk pp (by simp only [e, zth]) (BX_o hB (by omega)) (by rw [stt_o (by decide)]; exact hR') (Off_w hO (by unfold WB2; omega))
    have fin145 : ∀ h' k' S', zstb t n S k = .inr (k', S') → LSt t n k' S' h' → ah_m h' 1036 57 = c → ah_m h' 1036 56 = zcdd S' → Off WB2 h h' → wpB (d + 8) 249 145 [some (.inr (.inr 1036)), some (.inl k)] [] h' Q := by
      intro h' k' S' e hL' f57 f56 hO
      have hP' := zstb_P hP hX.2.2.2.2.2.1.1 hX.2.2.2.2.2.1.2.1 hX.2.2.2.2.2.1.2.2.1 e
      simp only [e, zth] at hq0 hq1
      simp (disch := omega) only [q_249_145, b_249_145, ↓w_iconst, ↓w_bipush, ↓w_aload_n_0, ↓w_dup_i, ↓w_dup_a, ↓w_iadd, ↓w_getfield, ↓w_putfield_0, ↓w_return, ↓w_invokevirtual_1, stw_0, stw_i, stw_l, stw_r, ofK0, ofK1, ofK2, lst1, lst2, lkill, kont_none, kont_some, Int.reduceToNat, List.length_cons, List.length_nil, Nat.reduceAdd, Nat.reduceLeDiff, Nat.zero_le, true_and, and_true, if_true, if_false, ne_eq, Int.reduceEq, Int.reduceNeg, not_false_eq_true, not_true_eq_false, ↓reduceIte, Int.reduceLT, Int.reduceLE, and_self, or_true, true_or, or_false, false_or, false_and, and_false, ah_t_w, ah_m_w, ah_n_w, lst1_0, List.tail_cons, w32_i, zbd, lst2_0, mt_1036a hL'.1.1]
      refine c_247 hL'.1 (by decide) (fun h2 ne hB hO2 => ?_) (fun h2 e59 hX2 hO2 => ?_)
      · have g57 : ah_m h2 1036 57 = c := by rw [hO2.2 _ _ (by unfold Wlx; omega)]; exact f57
        simp (disch := omega) only [b_249_145, ↓w_iconst, ↓w_bipush, ↓w_aload_n_0, ↓w_dup_i, ↓w_dup_a, ↓w_iadd, ↓w_getfield, ↓w_putfield_0, ↓w_return, ↓w_invokevirtual_1, stw_0, stw_i, stw_l, stw_r, ofK0, ofK1, ofK2, lst1, lst2, lkill, kont_none, kont_some, Int.reduceToNat, List.length_cons, List.length_nil, Nat.reduceAdd, Nat.reduceLeDiff, Nat.zero_le, true_and, and_true, if_true, if_false, ne_eq, Int.reduceEq, Int.reduceNeg, not_false_eq_true, not_true_eq_false, ↓reduceIte, Int.reduceLT, Int.reduceLE, and_self, or_true, true_or, or_false, false_or, false_and, and_false, ah_t_w, ah_m_w, ah_n_w, lst1_0, List.tail_cons, w32_i, zbd, lst2_0, mt_1036a hB.1, g57]
        refine hq0 _ 1 (zsk t n k') (by unfold zsgn1; rw [if_neg ne]) (BX_o hB (by omega)) (by rw [stt_o (by decide), stt_off hO2 (fun r i w g => by unfold Wlx at w; omega), hL'.2]; exact hP'.2.2.2.1) (Off_w (Off_tr hO (Off_mono (fun r i w => Or.inl (Or.inl w)) hO2)) (by unfold WB2; omega))
      · have g57 : ah_m h2 1036 57 = c := by rw [hO2.2 _ _ (by unfold Wat; omega)]; exact f57
        have hL2 := LS_lx hL' hX2 hO2 (fun r i w => Wat_lx w)
        simp (disch := omega) only [b_249_145, ↓w_iconst, ↓w_bipush, ↓w_aload_n_0, ↓w_dup_i, ↓w_dup_a, ↓w_iadd, ↓w_getfield, ↓w_putfield_0, ↓w_return, ↓w_invokevirtual_1, stw_0, stw_i, stw_l, stw_r, ofK0, ofK1, ofK2, lst1, lst2, lkill, kont_none, kont_some, Int.reduceToNat, List.length_cons, List.length_nil, Nat.reduceAdd, Nat.reduceLeDiff, Nat.zero_le, true_and, and_true, if_true, if_false, ne_eq, Int.reduceEq, Int.reduceNeg, not_false_eq_true, not_true_eq_false, ↓reduceIte, Int.reduceLT, Int.reduceLE, and_self, or_true, true_or, or_false, false_or, false_and, and_false, ah_t_w, ah_m_w, ah_n_w, lst1_0, List.tail_cons, w32_i, zbd, lst2_0, mt_1036a hX2.1, g57]
        refine hq1 _ _ S' (by unfold zsgn1; rw [if_pos e59]) ⟨LS_o hL2 (by omega), by rw [ah_m_w, if_pos ⟨rfl, rfl⟩], ?_⟩ (Off_w (Off_tr hO (Off_mono (fun r i w => Or.inl (Wat_R w)) hO2)) (by unfold WB2; omega))
        rw [ah_m_w, if_neg (by omega), hO2.2 _ _ (by unfold Wat; omega)]; exact f56
    have sl : ∀ h' h'', Off WR h' h'' → ah_m h' 1036 57 = c → ah_m h' 1036 56 = zcdd S → ah_m h'' 1036 57 = c ∧ ah_m h'' 1036 56 = zcdd S := fun h' h'' hO a b => ⟨by rw [hO.2 _ _ (by unfold WR Wlx LO; omega)]; exact a, by rw [hO.2 _ _ (by unfold WR Wlx LO; omega)]; exact b⟩
    have toB : ∀ h' h'', Off WB2 h h' → Off WR h' h'' → Off WB2 h h'' := fun h' h'' a b => Off_tr a (Off_mono (fun r i w => Or.inl w) b)
    have toL : ∀ h' h'', Off WB2 h h' → Off Wlx h' h'' → Off WB2 h h'' := fun h' h'' a b => Off_tr a (Off_mono (fun r i w => Or.inl (Or.inl w)) b)
    unfold zstb at bad145 fin145
    have s0 : ah_m h 1036 57 = c ∧ ah_m h 1036 56 = zcdd S := hB0.2
    have hO0 : Off WB2 h h := Off_rfl
    have hL0 := hL
    have hs0 : zsk t n k = k := hs
    simp (disch := omega) only [q_249_0, b_249_0, q_249_21, b_249_21, ↓w_iconst, ↓w_bipush, ↓w_aload_n_0, ↓w_iload_n_1, ↓w_istore_n_1, ↓w_getfield, ↓w_goto, ↓w_ifCond_eq, ↓w_if_icmp_ne, ↓w_return, ↓w_invokevirtual_1, ↓w_invokevirtual_2, stw_0, stw_i, stw_l, stw_r, ofK0, ofK1, ofK2, lst1, lst2, lkill, kont_none, kont_some, Int.reduceToNat, List.length_cons, List.length_nil, Nat.reduceAdd, Nat.reduceLeDiff, Nat.zero_le, true_and, and_true, if_true, if_false, ne_eq, Int.reduceEq, Int.reduceNeg, not_false_eq_true, not_true_eq_false, ↓reduceIte, Int.reduceLT, Int.reduceLE, and_self, or_true, true_or, or_false, false_or, false_and, and_false, ah_t_w, ah_m_w, ah_n_w, lst1_0, List.tail_cons, w32_i, zbd, lst2_0, mt_1036a hM, mt_1043a hM, mt_1043b hM, mf_15 hM, e2, e57, g60]
    refine c_239 hL0.1 (wb_1043 hL0.1.1) (by decide) (by decide) (fun h1 e hX1 hO => ?_) (fun h1 e hX1 hO => ?_)
    rotate_left
    · rw [hs] at e hX1
      have hX1 : LX t n (k + 4) h1 := hX1
      simp only [e, if_true] at bad145 fin145
      have hL1 := LS_lx hL0 hX1 hO (fun r i w => w)
      have hO1 := toL _ _ hO0 hO
      have s1 := sl _ _ (Off_mono (fun r i w => Or.inl w) hO) s0.1 s0.2
      simp (disch := omega) only [b_249_21, ↓w_aload_n_0, ↓w_iload_n_1, ↓w_getfield, ↓w_goto, ↓w_ifCond_eq, ↓w_invokevirtual_1, stw_0, stw_i, stw_l, stw_r, ofK0, ofK1, ofK2, lst1, lst2, lkill, kont_none, kont_some, Int.reduceToNat, List.length_cons, List.length_nil, Nat.reduceAdd, Nat.reduceLeDiff, Nat.zero_le, true_and, and_true, if_true, if_false, ne_eq, Int.reduceEq, Int.reduceNeg, not_false_eq_true, not_true_eq_false, ↓reduceIte, Int.reduceLT, Int.reduceLE, and_self, or_true, true_or, or_false, false_or, false_and, and_false, ah_t_w, ah_m_w, ah_n_w, lst1_0, List.tail_cons, w32_i, zbd, lst2_0, mt_1036a hX1.1, mt_1043a hX1.1, mt_1043b hX1.1, mf_15 hX1.1]
      refine c_250 hL1 hC (fun h9 kk pp e9 hB hO9 => ?_) (fun h9 k' S' e9 hL9 hO9 => ?_)
      · simp (disch := omega) only [b_249_21, ↓w_aload_n_0, ↓w_iload_n_1, ↓w_getfield, ↓w_goto, ↓w_ifCond_eq, ↓w_invokevirtual_1, stw_0, stw_i, stw_l, stw_r, ofK0, ofK1, ofK2, lst1, lst2, lkill, kont_none, kont_some, Int.reduceToNat, List.length_cons, List.length_nil, Nat.reduceAdd, Nat.reduceLeDiff, Nat.zero_le, true_and, and_true, if_true, if_false, ne_eq, Int.reduceEq, Int.reduceNeg, not_false_eq_true, not_true_eq_false, ↓reduceIte, Int.reduceLT, Int.reduceLE, and_self, or_true, true_or, or_false, false_or, false_and, and_false, ah_t_w, ah_m_w, ah_n_w, lst1_0, List.tail_cons, w32_i, zbd, lst2_0]
        exact bad145 h9 kk pp e9 hB (hRs _ (by rw [stt_off hO9 (fun r i w g => by unfold WF Wlx at w; omega)]; exact hL1.2)) (sl _ _ (Off_mono (fun r i w => WF_R w) hO9) s1.1 s1.2).1 (toB _ _ hO1 (Off_mono (fun r i w => WF_R w) hO9))
      · simp (disch := omega) only [b_249_21, ↓w_aload_n_0, ↓w_iload_n_1, ↓w_getfield, ↓w_goto, ↓w_ifCond_eq, ↓w_invokevirtual_1, stw_0, stw_i, stw_l, stw_r, ofK0, ofK1, ofK2, lst1, lst2, lkill, kont_none, kont_some, Int.reduceToNat, List.length_cons, List.length_nil, Nat.reduceAdd, Nat.reduceLeDiff, Nat.zero_le, true_and, and_true, if_true, if_false, ne_eq, Int.reduceEq, Int.reduceNeg, not_false_eq_true, not_true_eq_false, ↓reduceIte, Int.reduceLT, Int.reduceLE, and_self, or_true, true_or, or_false, false_or, false_and, and_false, ah_t_w, ah_m_w, ah_n_w, lst1_0, List.tail_cons, w32_i, zbd, lst2_0]
        exact fin145 h9 k' S' e9 hL9 (sl _ _ hO9 s1.1 s1.2).1 (by rw [zkb_c hL1.1.2.2.2.2.2.1.1 hL1.1.2.2.2.2.2.1.2.1 e9]; exact (sl _ _ hO9 s1.1 s1.2).2) (toB _ _ hO1 hO9)
    rw [hs] at e hX1
    simp only [e, if_false, Bool.false_eq_true] at bad145 fin145
    have hL1 := LS_lx hL0 hX1 hO (fun r i w => Wat_lx w)
    have hO1 := toL _ _ hO0 (Off_mono (fun r i w => Wat_lx w) hO)
    have s1 := sl _ _ (Off_mono (fun r i w => Wat_R w) hO) s0.1 s0.2
    clear e hO
    simp (disch := omega) only [b_249_21, q_249_40, b_249_40, ↓w_aload_n_0, ↓w_iload_n_1, ↓w_getfield, ↓w_goto, ↓w_ifCond_eq, ↓w_invokevirtual_1, stw_0, stw_i, stw_l, stw_r, ofK0, ofK1, ofK2, lst1, lst2, lkill, kont_none, kont_some, Int.reduceToNat, List.length_cons, List.length_nil, Nat.reduceAdd, Nat.reduceLeDiff, Nat.zero_le, true_and, and_true, if_true, if_false, ne_eq, Int.reduceEq, Int.reduceNeg, not_false_eq_true, not_true_eq_false, ↓reduceIte, Int.reduceLT, Int.reduceLE, and_self, or_true, true_or, or_false, false_or, false_and, and_false, ah_t_w, ah_m_w, ah_n_w, lst1_0, List.tail_cons, w32_i, zbd, lst2_0, mt_1036a hX1.1, mt_1043a hX1.1, mt_1043b hX1.1, mf_15 hX1.1, mt_1048a hX1.1, mt_1048b hX1.1, mf_20 hX1.1]
    refine c_239 hL1.1 (wb_1048 hL1.1.1) (by decide) (by decide) (fun h2 e hX2 hO => ?_) (fun h2 e hX2 hO => ?_)
    rotate_left
    · rw [hs] at e hX2
      have hX2 : LX t n (k + 3) h2 := hX2
      simp only [e, if_true] at bad145 fin145
      have hL2 := LS_lx hL1 hX2 hO (fun r i w => w)
      have hO2 := toL _ _ hO1 hO
      have s2 := sl _ _ (Off_mono (fun r i w => Or.inl w) hO) s1.1 s1.2
      simp (disch := omega) only [b_249_40, ↓w_aload_n_0, ↓w_iload_n_1, ↓w_getfield, ↓w_goto, ↓w_ifCond_eq, ↓w_invokevirtual_1, stw_0, stw_i, stw_l, stw_r, ofK0, ofK1, ofK2, lst1, lst2, lkill, kont_none, kont_some, Int.reduceToNat, List.length_cons, List.length_nil, Nat.reduceAdd, Nat.reduceLeDiff, Nat.zero_le, true_and, and_true, if_true, if_false, ne_eq, Int.reduceEq, Int.reduceNeg, not_false_eq_true, not_true_eq_false, ↓reduceIte, Int.reduceLT, Int.reduceLE, and_self, or_true, true_or, or_false, false_or, false_and, and_false, ah_t_w, ah_m_w, ah_n_w, lst1_0, List.tail_cons, w32_i, zbd, lst2_0, mt_1036a hX2.1, mt_1048a hX2.1, mt_1048b hX2.1, mf_20 hX2.1]
      refine c_257 hL2 hC hD (fun h9 kk pp e9 hB hO9 => ?_) (fun h9 k' S' e9 hL9 hO9 => ?_)
      · simp (disch := omega) only [b_249_40, ↓w_aload_n_0, ↓w_iload_n_1, ↓w_getfield, ↓w_goto, ↓w_ifCond_eq, ↓w_invokevirtual_1, stw_0, stw_i, stw_l, stw_r, ofK0, ofK1, ofK2, lst1, lst2, lkill, kont_none, kont_some, Int.reduceToNat, List.length_cons, List.length_nil, Nat.reduceAdd, Nat.reduceLeDiff, Nat.zero_le, true_and, and_true, if_true, if_false, ne_eq, Int.reduceEq, Int.reduceNeg, not_false_eq_true, not_true_eq_false, ↓reduceIte, Int.reduceLT, Int.reduceLE, and_self, or_true, true_or, or_false, false_or, false_and, and_false, ah_t_w, ah_m_w, ah_n_w, lst1_0, List.tail_cons, w32_i, zbd, lst2_0]
        exact bad145 h9 kk pp e9 hB (hRs _ (by rw [stt_off hO9 (fun r i w g => by unfold WF Wlx at w; omega)]; exact hL2.2)) (sl _ _ (Off_mono (fun r i w => WF_R w) hO9) s2.1 s2.2).1 (toB _ _ hO2 (Off_mono (fun r i w => WF_R w) hO9))
      · simp (disch := omega) only [b_249_40, ↓w_aload_n_0, ↓w_iload_n_1, ↓w_getfield, ↓w_goto, ↓w_ifCond_eq, ↓w_invokevirtual_1, stw_0, stw_i, stw_l, stw_r, ofK0, ofK1, ofK2, lst1, lst2, lkill, kont_none, kont_some, Int.reduceToNat, List.length_cons, List.length_nil, Nat.reduceAdd, Nat.reduceLeDiff, Nat.zero_le, true_and, and_true, if_true, if_false, ne_eq, Int.reduceEq, Int.reduceNeg, not_false_eq_true, not_true_eq_false, ↓reduceIte, Int.reduceLT, Int.reduceLE, and_self, or_true, true_or, or_false, false_or, false_and, and_false, ah_t_w, ah_m_w, ah_n_w, lst1_0, List.tail_cons, w32_i, zbd, lst2_0]
        exact fin145 h9 k' S' e9 hL9 (sl _ _ hO9 s2.1 s2.2).1 (by rw [zmb_c e9]; exact (sl _ _ hO9 s2.1 s2.2).2) (toB _ _ hO2 hO9)
    rw [hs] at e hX2
    simp only [e, if_false, Bool.false_eq_true] at bad145 fin145
    have hL2 := LS_lx hL1 hX2 hO (fun r i w => Wat_lx w)
    have hO2 := toL _ _ hO1 (Off_mono (fun r i w => Wat_lx w) hO)
    have s2 := sl _ _ (Off_mono (fun r i w => Wat_R w) hO) s1.1 s1.2
    clear e hO
    simp (disch := omega) only [b_249_40, q_249_59, b_249_59, ↓w_aload_n_0, ↓w_iload_n_1, ↓w_getfield, ↓w_goto, ↓w_ifCond_eq, ↓w_invokevirtual_1, stw_0, stw_i, stw_l, stw_r, ofK0, ofK1, ofK2, lst1, lst2, lkill, kont_none, kont_some, Int.reduceToNat, List.length_cons, List.length_nil, Nat.reduceAdd, Nat.reduceLeDiff, Nat.zero_le, true_and, and_true, if_true, if_false, ne_eq, Int.reduceEq, Int.reduceNeg, not_false_eq_true, not_true_eq_false, ↓reduceIte, Int.reduceLT, Int.reduceLE, and_self, or_true, true_or, or_false, false_or, false_and, and_false, ah_t_w, ah_m_w, ah_n_w, lst1_0, List.tail_cons, w32_i, zbd, lst2_0, mt_1036a hX2.1, mt_1048a hX2.1, mt_1048b hX2.1, mf_20 hX2.1, mt_1052a hX2.1, mt_1052b hX2.1, mf_24 hX2.1]
    refine c_239 hL2.1 (wb_1052 hL2.1.1) (by decide) (by decide) (fun h3 e hX3 hO => ?_) (fun h3 e hX3 hO => ?_)
    rotate_left
    · rw [hs] at e hX3
      have hX3 : LX t n (k + 5) h3 := hX3
      simp only [e, if_true] at bad145 fin145
      have hL3 := LS_lx hL2 hX3 hO (fun r i w => w)
      have hO3 := toL _ _ hO2 hO
      have s3 := sl _ _ (Off_mono (fun r i w => Or.inl w) hO) s2.1 s2.2
      simp (disch := omega) only [b_249_59, ↓w_aload_n_0, ↓w_iload_n_1, ↓w_getfield, ↓w_goto, ↓w_ifCond_eq, ↓w_invokevirtual_1, stw_0, stw_i, stw_l, stw_r, ofK0, ofK1, ofK2, lst1, lst2, lkill, kont_none, kont_some, Int.reduceToNat, List.length_cons, List.length_nil, Nat.reduceAdd, Nat.reduceLeDiff, Nat.zero_le, true_and, and_true, if_true, if_false, ne_eq, Int.reduceEq, Int.reduceNeg, not_false_eq_true, not_true_eq_false, ↓reduceIte, Int.reduceLT, Int.reduceLE, and_self, or_true, true_or, or_false, false_or, false_and, and_false, ah_t_w, ah_m_w, ah_n_w, lst1_0, List.tail_cons, w32_i, zbd, lst2_0, mt_1036a hX3.1, mt_1052a hX3.1, mt_1052b hX3.1, mf_24 hX3.1]
      refine c_259 hL3 hC hD (fun h9 kk pp e9 hB hO9 => ?_) (fun h9 k' S' e9 hL9 hO9 => ?_)
      · simp (disch := omega) only [b_249_59, ↓w_aload_n_0, ↓w_iload_n_1, ↓w_getfield, ↓w_goto, ↓w_ifCond_eq, ↓w_invokevirtual_1, stw_0, stw_i, stw_l, stw_r, ofK0, ofK1, ofK2, lst1, lst2, lkill, kont_none, kont_some, Int.reduceToNat, List.length_cons, List.length_nil, Nat.reduceAdd, Nat.reduceLeDiff, Nat.zero_le, true_and, and_true, if_true, if_false, ne_eq, Int.reduceEq, Int.reduceNeg, not_false_eq_true, not_true_eq_false, ↓reduceIte, Int.reduceLT, Int.reduceLE, and_self, or_true, true_or, or_false, false_or, false_and, and_false, ah_t_w, ah_m_w, ah_n_w, lst1_0, List.tail_cons, w32_i, zbd, lst2_0]
        exact bad145 h9 kk pp e9 hB (hRs _ (by rw [stt_off hO9 (fun r i w g => by unfold WF Wlx at w; omega)]; exact hL3.2)) (sl _ _ (Off_mono (fun r i w => WF_R w) hO9) s3.1 s3.2).1 (toB _ _ hO3 (Off_mono (fun r i w => WF_R w) hO9))
      · simp (disch := omega) only [b_249_59, ↓w_aload_n_0, ↓w_iload_n_1, ↓w_getfield, ↓w_goto, ↓w_ifCond_eq, ↓w_invokevirtual_1, stw_0, stw_i, stw_l, stw_r, ofK0, ofK1, ofK2, lst1, lst2, lkill, kont_none, kont_some, Int.reduceToNat, List.length_cons, List.length_nil, Nat.reduceAdd, Nat.reduceLeDiff, Nat.zero_le, true_and, and_true, if_true, if_false, ne_eq, Int.reduceEq, Int.reduceNeg, not_false_eq_true, not_true_eq_false, ↓reduceIte, Int.reduceLT, Int.reduceLE, and_self, or_true, true_or, or_false, false_or, false_and, and_false, ah_t_w, ah_m_w, ah_n_w, lst1_0, List.tail_cons, w32_i, zbd, lst2_0]
        exact fin145 h9 k' S' e9 hL9 (sl _ _ hO9 s3.1 s3.2).1 (by rw [zfb2_c e9]; exact (sl _ _ hO9 s3.1 s3.2).2) (toB _ _ hO3 hO9)
    rw [hs] at e hX3
    simp only [e, if_false, Bool.false_eq_true] at bad145 fin145
    have hL3 := LS_lx hL2 hX3 hO (fun r i w => Wat_lx w)
    have hO3 := toL _ _ hO2 (Off_mono (fun r i w => Wat_lx w) hO)
    have s3 := sl _ _ (Off_mono (fun r i w => Wat_R w) hO) s2.1 s2.2
    clear e hO
    simp (disch := omega) only [b_249_59, q_249_78, b_249_78, ↓w_aload_n_0, ↓w_iload_n_1, ↓w_getfield, ↓w_goto, ↓w_ifCond_eq, ↓w_invokevirtual_1, stw_0, stw_i, stw_l, stw_r, ofK0, ofK1, ofK2, lst1, lst2, lkill, kont_none, kont_some, Int.reduceToNat, List.length_cons, List.length_nil, Nat.reduceAdd, Nat.reduceLeDiff, Nat.zero_le, true_and, and_true, if_true, if_false, ne_eq, Int.reduceEq, Int.reduceNeg, not_false_eq_true, not_true_eq_false, ↓reduceIte, Int.reduceLT, Int.reduceLE, and_self, or_true, true_or, or_false, false_or, false_and, and_false, ah_t_w, ah_m_w, ah_n_w, lst1_0, List.tail_cons, w32_i, zbd, lst2_0, mt_1036a hX3.1, mt_1052a hX3.1, mt_1052b hX3.1, mf_24 hX3.1, mt_1054a hX3.1, mt_1054b hX3.1, mf_26 hX3.1]
    refine c_239 hL3.1 (wb_1054 hL3.1.1) (by decide) (by decide) (fun h4 e hX4 hO => ?_) (fun h4 e hX4 hO => ?_)
    rotate_left
    · rw [hs] at e hX4
      have hX4 : LX t n (k + 4) h4 := hX4
      simp only [e, if_true] at bad145 fin145
      have hL4 := LS_lx hL3 hX4 hO (fun r i w => w)
      have hO4 := toL _ _ hO3 hO
      have s4 := sl _ _ (Off_mono (fun r i w => Or.inl w) hO) s3.1 s3.2
      simp (disch := omega) only [b_249_78, ↓w_aload_n_0, ↓w_iload_n_1, ↓w_getfield, ↓w_goto, ↓w_ifCond_eq, ↓w_invokevirtual_1, stw_0, stw_i, stw_l, stw_r, ofK0, ofK1, ofK2, lst1, lst2, lkill, kont_none, kont_some, Int.reduceToNat, List.length_cons, List.length_nil, Nat.reduceAdd, Nat.reduceLeDiff, Nat.zero_le, true_and, and_true, if_true, if_false, ne_eq, Int.reduceEq, Int.reduceNeg, not_false_eq_true, not_true_eq_false, ↓reduceIte, Int.reduceLT, Int.reduceLE, and_self, or_true, true_or, or_false, false_or, false_and, and_false, ah_t_w, ah_m_w, ah_n_w, lst1_0, List.tail_cons, w32_i, zbd, lst2_0, mt_1036a hX4.1, mt_1054a hX4.1, mt_1054b hX4.1, mf_26 hX4.1]
      refine c_260 (c := c) ⟨hL4, s4.1, s4.2⟩ (fun h9 kk pp e9 hB f9 hO9 => ?_) (fun h9 k' S' e9 hL9 hO9 => ?_)
      · simp (disch := omega) only [b_249_78, ↓w_aload_n_0, ↓w_iload_n_1, ↓w_getfield, ↓w_goto, ↓w_ifCond_eq, ↓w_invokevirtual_1, stw_0, stw_i, stw_l, stw_r, ofK0, ofK1, ofK2, lst1, lst2, lkill, kont_none, kont_some, Int.reduceToNat, List.length_cons, List.length_nil, Nat.reduceAdd, Nat.reduceLeDiff, Nat.zero_le, true_and, and_true, if_true, if_false, ne_eq, Int.reduceEq, Int.reduceNeg, not_false_eq_true, not_true_eq_false, ↓reduceIte, Int.reduceLT, Int.reduceLE, and_self, or_true, true_or, or_false, false_or, false_and, and_false, ah_t_w, ah_m_w, ah_n_w, lst1_0, List.tail_cons, w32_i, zbd, lst2_0]
        exact bad145 h9 kk pp e9 hB (hRs _ (by rw [stt_off hO9 (fun r i w g => by unfold WFq WF Wlx WZ WQ at w; omega)]; exact hL4.2)) f9 (Off_tr hO4 (Off_mono (fun r i w => by rcases w with w | w | w; exact Or.inl (WF_R w); exact Or.inr (Or.inl w); exact Or.inr (Or.inr ⟨w.1, by omega⟩)) hO9))
      · simp (disch := omega) only [b_249_78, ↓w_aload_n_0, ↓w_iload_n_1, ↓w_getfield, ↓w_goto, ↓w_ifCond_eq, ↓w_invokevirtual_1, stw_0, stw_i, stw_l, stw_r, ofK0, ofK1, ofK2, lst1, lst2, lkill, kont_none, kont_some, Int.reduceToNat, List.length_cons, List.length_nil, Nat.reduceAdd, Nat.reduceLeDiff, Nat.zero_le, true_and, and_true, if_true, if_false, ne_eq, Int.reduceEq, Int.reduceNeg, not_false_eq_true, not_true_eq_false, ↓reduceIte, Int.reduceLT, Int.reduceLE, and_self, or_true, true_or, or_false, false_or, false_and, and_false, ah_t_w, ah_m_w, ah_n_w, lst1_0, List.tail_cons, w32_i, zbd, lst2_0]
        exact fin145 h9 k' S' e9 hL9.1 hL9.2.1 hL9.2.2 (Off_tr hO4 hO9)
    rw [hs] at e hX4
    simp only [e, if_false, Bool.false_eq_true] at bad145 fin145
    have hL4 := LS_lx hL3 hX4 hO (fun r i w => Wat_lx w)
    have hO4 := toL _ _ hO3 (Off_mono (fun r i w => Wat_lx w) hO)
    have s4 := sl _ _ (Off_mono (fun r i w => Wat_R w) hO) s3.1 s3.2
    clear e hO
    simp (disch := omega) only [b_249_78, q_249_97, b_249_97, ↓w_iconst, ↓w_bipush, ↓w_aload_n_0, ↓w_iload_n_1, ↓w_getfield, ↓w_iastore, ↓w_goto, ↓w_ifCond_eq, ↓w_invokevirtual_1, ↓w_invokevirtual_2, stw_0, stw_i, stw_l, stw_r, ofK0, ofK1, ofK2, lst1, lst2, lkill, kont_none, kont_some, Int.reduceToNat, List.length_cons, List.length_nil, Nat.reduceAdd, Nat.reduceLeDiff, Nat.zero_le, true_and, and_true, if_true, if_false, ne_eq, Int.reduceEq, Int.reduceNeg, not_false_eq_true, not_true_eq_false, ↓reduceIte, Int.reduceLT, Int.reduceLE, and_self, or_true, true_or, or_false, false_or, false_and, and_false, ah_t_w, ah_m_w, ah_n_w, lst1_0, List.tail_cons, w32_i, zbd, lst2_0, mt_1036a hX4.1, mt_1054a hX4.1, mt_1054b hX4.1, mf_26 hX4.1, mt_1055a hX4.1, mt_1055b hX4.1, mf_27 hX4.1, mt_1079a hX4.1, mt_1079b hX4.1, mf_52 hX4.1]
    refine c_239 hL4.1 (wb_1055 hL4.1.1) (by decide) (by decide) (fun h5 e hX5 hO => ?_) (fun h5 e hX5 hO => ?_)
    rotate_left
    · rw [hs] at e hX5
      have hX5 : LX t n (k + 5) h5 := hX5
      simp only [e, if_true] at bad145 fin145
      have hL5 := LS_lx hL4 hX5 hO (fun r i w => w)
      have hO5 := toL _ _ hO4 hO
      have s5 := sl _ _ (Off_mono (fun r i w => Or.inl w) hO) s4.1 s4.2
      simp (disch := omega) only [b_249_97, ↓w_iconst, ↓w_bipush, ↓w_aload_n_0, ↓w_getfield, ↓w_iastore, ↓w_goto, ↓w_ifCond_eq, ↓w_invokevirtual_1, ↓w_invokevirtual_2, stw_0, stw_i, stw_l, stw_r, ofK0, ofK1, ofK2, lst1, lst2, lkill, kont_none, kont_some, Int.reduceToNat, List.length_cons, List.length_nil, Nat.reduceAdd, Nat.reduceLeDiff, Nat.zero_le, true_and, and_true, if_true, if_false, ne_eq, Int.reduceEq, Int.reduceNeg, not_false_eq_true, not_true_eq_false, ↓reduceIte, Int.reduceLT, Int.reduceLE, and_self, or_true, true_or, or_false, false_or, false_and, and_false, ah_t_w, ah_m_w, ah_n_w, lst1_0, List.tail_cons, w32_i, zbd, lst2_0, mt_1036a hX5.1, mt_1055a hX5.1, mt_1055b hX5.1, mf_27 hX5.1, mt_1079a hX5.1, mt_1079b hX5.1, mf_52 hX5.1]
      refine c_244 hX5 (by decide) (by decide) (fun h9 z kk pp e9 hB hO9 => ?_) (fun h9 q v e9 hX9 hO9 _ => ?_)
      · have s9 := sl _ _ (Off_mono (fun r i w => Or.inl w) hO9) s5.1 s5.2
        simp (disch := omega) only [b_249_97, ↓w_iconst, ↓w_bipush, ↓w_aload_n_0, ↓w_getfield, ↓w_iastore, ↓w_goto, ↓w_ifCond_eq, ↓w_invokevirtual_1, ↓w_invokevirtual_2, stw_0, stw_i, stw_l, stw_r, ofK0, ofK1, ofK2, lst1, lst2, lkill, kont_none, kont_some, Int.reduceToNat, List.length_cons, List.length_nil, Nat.reduceAdd, Nat.reduceLeDiff, Nat.zero_le, true_and, and_true, if_true, if_false, ne_eq, Int.reduceEq, Int.reduceNeg, not_false_eq_true, not_true_eq_false, ↓reduceIte, Int.reduceLT, Int.reduceLE, and_self, or_true, true_or, or_false, false_or, false_and, and_false, ah_t_w, ah_m_w, ah_n_w, lst1_0, List.tail_cons, w32_i, zbd, lst2_0, mt_1036a hB.1, mt_1055a hB.1, mt_1055b hB.1, mf_27 hB.1, mt_1079a hB.1, mt_1079b hB.1, mf_52 hB.1]
        refine bad145 _ kk pp (by simp only [e9, zth]) (BX_s hB (by decide)) (hRw _ _ _ (by rw [stt_off hO9 (fun r i w g => by unfold Wlx at w; omega)]; exact hL5.2)) (by rw [ah_m_w, if_neg (by omega)]; exact s9.1) (Off_w (toL _ _ hO5 hO9) (by unfold WB2 WR LO; omega))
      · have s9 := sl _ _ (Off_mono (fun r i w => Or.inl w) hO9) s5.1 s5.2
        have hL9 := LS_lx hL5 hX9 hO9 (fun r i w => w)
        simp (disch := omega) only [b_249_97, ↓w_iconst, ↓w_bipush, ↓w_aload_n_0, ↓w_getfield, ↓w_iastore, ↓w_goto, ↓w_ifCond_eq, ↓w_invokevirtual_1, ↓w_invokevirtual_2, stw_0, stw_i, stw_l, stw_r, ofK0, ofK1, ofK2, lst1, lst2, lkill, kont_none, kont_some, Int.reduceToNat, List.length_cons, List.length_nil, Nat.reduceAdd, Nat.reduceLeDiff, Nat.zero_le, true_and, and_true, if_true, if_false, ne_eq, Int.reduceEq, Int.reduceNeg, not_false_eq_true, not_true_eq_false, ↓reduceIte, Int.reduceLT, Int.reduceLE, and_self, or_true, true_or, or_false, false_or, false_and, and_false, ah_t_w, ah_m_w, ah_n_w, lst1_0, List.tail_cons, w32_i, zbd, lst2_0, mt_1036a hX9.1, mt_1055a hX9.1, mt_1055b hX9.1, mf_27 hX9.1, mt_1079a hX9.1, mt_1079b hX9.1, mf_52 hX9.1]
        refine fin145 _ q (zw S 1079 0 v) (by simp only [e9, zth]) (LS_w hL9 (by decide)) (by rw [ah_m_w, if_neg (by omega)]; exact s9.1) (by rw [ah_m_w, if_neg (by omega), zcdd_s]; exact s9.2) (Off_w (toL _ _ hO5 hO9) (by unfold WB2 WR LO; omega))
    rw [hs] at e hX5
    simp only [e, if_false, Bool.false_eq_true] at bad145 fin145
    have hL5 := LS_lx hL4 hX5 hO (fun r i w => Wat_lx w)
    have hO5 := toL _ _ hO4 (Off_mono (fun r i w => Wat_lx w) hO)
    have s5 := sl _ _ (Off_mono (fun r i w => Wat_R w) hO) s4.1 s4.2
    clear e hO
    simp (disch := omega) only [b_249_97, q_249_124, b_249_124, ↓w_iconst, ↓w_bipush, ↓w_aload_n_0, ↓w_getfield, ↓w_iastore, ↓w_nop, ↓w_goto, ↓w_ifCond_eq, ↓w_invokevirtual_1, ↓w_invokevirtual_2, stw_0, stw_i, stw_l, stw_r, ofK0, ofK1, ofK2, lst1, lst2, lkill, kont_none, kont_some, Int.reduceToNat, List.length_cons, List.length_nil, Nat.reduceAdd, Nat.reduceLeDiff, Nat.zero_le, true_and, and_true, if_true, if_false, ne_eq, Int.reduceEq, Int.reduceNeg, not_false_eq_true, not_true_eq_false, ↓reduceIte, Int.reduceLT, Int.reduceLE, and_self, or_true, true_or, or_false, false_or, false_and, and_false, ah_t_w, ah_m_w, ah_n_w, lst1_0, List.tail_cons, w32_i, zbd, lst2_0, mt_1036a hX5.1, mt_1055a hX5.1, mt_1055b hX5.1, mf_27 hX5.1, mt_1056a hX5.1, mt_1056b hX5.1, mf_28 hX5.1, mt_1079a hX5.1, mt_1079b hX5.1, mf_52 hX5.1]
    refine c_238 hL5.1 (wb_1056 hL5.1.1) (by decide) (by decide) (fun h6 e hB hO => ?_) (fun h6 e hX6 hO => ?_)
    · have e := zask1_f e
      have s6 := sl _ _ (Off_mono (fun r i w => Or.inl w) hO) s5.1 s5.2
      simp (disch := omega) only [b_249_124, ↓w_iconst, ↓w_bipush, ↓w_aload_n_0, ↓w_getfield, ↓w_iastore, ↓w_nop, ↓w_invokevirtual_1, ↓w_invokevirtual_2, stw_0, stw_i, stw_l, stw_r, ofK0, ofK1, ofK2, lst1, lst2, lkill, kont_none, kont_some, Int.reduceToNat, List.length_cons, List.length_nil, Nat.reduceAdd, Nat.reduceLeDiff, Nat.zero_le, true_and, and_true, if_true, if_false, ne_eq, Int.reduceEq, Int.reduceNeg, not_false_eq_true, not_true_eq_false, ↓reduceIte, Int.reduceLT, Int.reduceLE, and_self, or_true, true_or, or_false, false_or, false_and, and_false, ah_t_w, ah_m_w, ah_n_w, lst1_0, List.tail_cons, w32_i, zbd, lst2_0, mt_1036a hB.1, mt_1056a hB.1, mt_1056b hB.1, mf_28 hB.1, mt_1079a hB.1, mt_1079b hB.1, mf_52 hB.1, b_244 hB]
      refine bad145 _ _ _ (by simp only [e, zth]) (BX_s hB (by decide)) (hRw _ _ _ (by rw [stt_off hO (fun r i w g => by unfold Wlx at w; omega)]; exact hL5.2)) (by rw [ah_m_w, if_neg (by omega)]; exact s6.1) (Off_w (toL _ _ hO5 hO) (by unfold WB2 WR LO; omega))
    have e6 := zask1_t e
    have hL6 := LS_lx hL5 hX6 hO (fun r i w => w)
    have hO6 := toL _ _ hO5 hO
    have s6 := sl _ _ (Off_mono (fun r i w => Or.inl w) hO) s5.1 s5.2
    clear e hO
    simp only [e6, zth] at bad145 fin145
    simp (disch := omega) only [b_249_124, ↓w_iconst, ↓w_bipush, ↓w_aload_n_0, ↓w_getfield, ↓w_iastore, ↓w_nop, ↓w_invokevirtual_1, ↓w_invokevirtual_2, stw_0, stw_i, stw_l, stw_r, ofK0, ofK1, ofK2, lst1, lst2, lkill, kont_none, kont_some, Int.reduceToNat, List.length_cons, List.length_nil, Nat.reduceAdd, Nat.reduceLeDiff, Nat.zero_le, true_and, and_true, if_true, if_false, ne_eq, Int.reduceEq, Int.reduceNeg, not_false_eq_true, not_true_eq_false, ↓reduceIte, Int.reduceLT, Int.reduceLE, and_self, or_true, true_or, or_false, false_or, false_and, and_false, ah_t_w, ah_m_w, ah_n_w, lst1_0, List.tail_cons, w32_i, zbd, lst2_0, mt_1036a hX6.1, mt_1056a hX6.1, mt_1056b hX6.1, mf_28 hX6.1, mt_1079a hX6.1, mt_1079b hX6.1, mf_52 hX6.1]
    refine c_244 hX6 (by decide) (by decide) (fun h9 z kk pp e9 hB hO9 => ?_) (fun h9 q v e9 hX9 hO9 _ => ?_)
    · have s9 := sl _ _ (Off_mono (fun r i w => Or.inl w) hO9) s6.1 s6.2
      simp (disch := omega) only [b_249_124, ↓w_iconst, ↓w_bipush, ↓w_aload_n_0, ↓w_getfield, ↓w_iastore, ↓w_nop, ↓w_invokevirtual_1, ↓w_invokevirtual_2, stw_0, stw_i, stw_l, stw_r, ofK0, ofK1, ofK2, lst1, lst2, lkill, kont_none, kont_some, Int.reduceToNat, List.length_cons, List.length_nil, Nat.reduceAdd, Nat.reduceLeDiff, Nat.zero_le, true_and, and_true, if_true, if_false, ne_eq, Int.reduceEq, Int.reduceNeg, not_false_eq_true, not_true_eq_false, ↓reduceIte, Int.reduceLT, Int.reduceLE, and_self, or_true, true_or, or_false, false_or, false_and, and_false, ah_t_w, ah_m_w, ah_n_w, lst1_0, List.tail_cons, w32_i, zbd, lst2_0, mt_1036a hB.1, mt_1056a hB.1, mt_1056b hB.1, mf_28 hB.1, mt_1079a hB.1, mt_1079b hB.1, mf_52 hB.1]
      refine bad145 _ kk pp (by simp only [e9]) (BX_s hB (by decide)) (hRw _ _ _ (by rw [stt_off hO9 (fun r i w g => by unfold Wlx at w; omega)]; exact hL6.2)) (by rw [ah_m_w, if_neg (by omega)]; exact s9.1) (Off_w (toL _ _ hO6 hO9) (by unfold WB2 WR LO; omega))
    · have s9 := sl _ _ (Off_mono (fun r i w => Or.inl w) hO9) s6.1 s6.2
      have hL9 := LS_lx hL6 hX9 hO9 (fun r i w => w)
      simp (disch := omega) only [b_249_124, ↓w_iconst, ↓w_bipush, ↓w_aload_n_0, ↓w_getfield, ↓w_iastore, ↓w_nop, ↓w_invokevirtual_1, ↓w_invokevirtual_2, stw_0, stw_i, stw_l, stw_r, ofK0, ofK1, ofK2, lst1, lst2, lkill, kont_none, kont_some, Int.reduceToNat, List.length_cons, List.length_nil, Nat.reduceAdd, Nat.reduceLeDiff, Nat.zero_le, true_and, and_true, if_true, if_false, ne_eq, Int.reduceEq, Int.reduceNeg, not_false_eq_true, not_true_eq_false, ↓reduceIte, Int.reduceLT, Int.reduceLE, and_self, or_true, true_or, or_false, false_or, false_and, and_false, ah_t_w, ah_m_w, ah_n_w, lst1_0, List.tail_cons, w32_i, zbd, lst2_0, mt_1036a hX9.1, mt_1056a hX9.1, mt_1056b hX9.1, mf_28 hX9.1, mt_1079a hX9.1, mt_1079b hX9.1, mf_52 hX9.1]
      refine fin145 _ q (zw S 1079 1 v) (by simp only [e9]) (LS_w hL9 (by decide)) (by rw [ah_m_w, if_neg (by omega)]; exact s9.1) (by rw [ah_m_w, if_neg (by omega), zcdd_s]; exact s9.2) (Off_w (toL _ _ hO6 hO9) (by unfold WB2 WR LO; omega))
end BRD5
