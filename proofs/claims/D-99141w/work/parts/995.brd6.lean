/-! ===== M: the first statement; a board stands (printed by gen_995.py) ===== -/
def zbt (t : Int → Int) (n : Int) (S : Int → Int → Int) (k : Int) : (Int × Int) ⊕ (Int × (Int → Int → Int)) := zth (zask1 t n k [98, 111, 97, 114, 100]) fun k0 => zth (znum t n k0 2 5) fun a0 => zth (zask1 t n a0.1 [98, 121]) fun k1 => zth (znum t n k1 2 5) fun a1 => zth (zask1 t n a1.1 [119, 104, 105, 116, 101]) fun k2 => zth (znum t n k2 1 2) fun a2 => zth (zask1 t n a2.1 [98, 108, 97, 99, 107]) fun k3 => zth (znum t n k3 1 2) fun a3 => zth (zsgn1 t n a3.1 59) fun k5 => .inr (k5, zw (zw (zw (zw S 1074 0 a0.2) 1074 1 a1.2) 1074 2 a2.2) 1074 3 a3.2)
def zcp (S : Int → Int → Int) (row off cnt : Int) : Int → Int → Int := fun r i => if r = row ∧ off ≤ i ∧ i < off + cnt then S row (i - off) else S r i
def znw0 (S : Int → Int → Int) (nw : Int → Int) : Int → Int := fun i => if 18 ≤ i ∧ i < 18 + S 1072 2 then S 1078 (3 * (i - 18) + 2) else if 2 ≤ i ∧ i < 2 + 2 * S 1072 1 then S 1077 (i - 2) else if 0 ≤ i ∧ i < 225 then 0 else nw i
def zstd (S : Int → Int → Int) : Int → Int → Int := zcp (zw (zw (zcp (zcp (zcp (zcp (zcp (zcp (zcp S 1072 3 3) 1073 24 24) 1074 4 4) 1075 20 20) 1076 16 16) 1078 18 18) 1079 2 2) 1080 1 (S 1080 0)) 1081 1 (S 1081 0)) 1082 1600 (zcdd S)
section BRD6
variable {d : Nat} {h h0 : AH} {Q : QQ} {x y z m k s l w a b c v n p r o lo hi bg : Int} {S : Int → Int → Int} {t nw : Int → Int} {cs : List Int}
set_option maxHeartbeats 4000000
def Wbt (r i : Int) : Prop := Wlx r i ∨ (r = 1074 ∧ 0 ≤ i ∧ i < 4)
theorem Off_bt {h' h'' : AH} (a : Off Wbt h h') (b : Off Wlx h' h'') : Off Wbt h h'' := Off_tr a (Off_mono (fun r i w => Or.inl w) b)
theorem c_237 (hL0 : LSt t n k S h)
    (hq0 : ∀ h' kk pp, zbt t n S k = .inl (kk, pp) → BX kk pp h' → Off Wbt h h' → Q (.inl none) h')
    (hq1 : ∀ h' k' S', zbt t n S k = .inr (k', S') → LSt t n k' S' h' → Off Wbt h h' → Q (.inl none) h') : wpC (d + 5) 237 [.inr (.inr 1036)] h Q := by
  have hM := hL0.1.1
  have hO0 : Off Wbt h h := Off_rfl
  have wr0 : ∀ {h' : AH} {v : Int}, Off Wbt h h' → Off Wbt h (ah_w h' 1074 0 v) := fun hO => Off_w hO (by unfold Wbt; omega)
  have wr1 : ∀ {h' : AH} {v : Int}, Off Wbt h h' → Off Wbt h (ah_w h' 1074 1 v) := fun hO => Off_w hO (by unfold Wbt; omega)
  have wr2 : ∀ {h' : AH} {v : Int}, Off Wbt h h' → Off Wbt h (ah_w h' 1074 2 v) := fun hO => Off_w hO (by unfold Wbt; omega)
  have wr3 : ∀ {h' : AH} {v : Int}, Off Wbt h h' → Off Wbt h (ah_w h' 1074 3 v) := fun hO => Off_w hO (by unfold Wbt; omega)
  unfold zbt at hq0 hq1
  rw [wpC_B]; refine ⟨⟨Nat.zero_lt_succ _, Nat.le_of_ble_eq_true rfl⟩, ?_⟩; simp only [lent]
  simp (disch := omega) only [q_237_0, b_237_0, ↓w_iconst, ↓w_aload_n_0, ↓w_getfield, ↓w_iastore, ↓w_nop, ↓w_invokevirtual_1, ↓w_invokevirtual_2, stw_0, stw_i, stw_l, stw_r, ofK0, ofK1, ofK2, lst1, lst2, lkill, kont_none, kont_some, Int.reduceToNat, List.length_cons, List.length_nil, Nat.reduceAdd, Nat.reduceLeDiff, Nat.zero_le, true_and, and_true, if_true, if_false, ne_eq, Int.reduceEq, Int.reduceNeg, not_false_eq_true, not_true_eq_false, ↓reduceIte, Int.reduceLT, Int.reduceLE, and_self, or_true, true_or, or_false, false_or, false_and, and_false, ah_t_w, ah_m_w, ah_n_w, lst1_0, List.tail_cons, w32_i, zbd, lst2_0, mt_1036a hM, mt_1039a hM, mt_1039b hM, mf_11 hM, mt_1040a hM, mt_1040b hM, mf_12 hM, mt_1041a hM, mt_1041b hM, mf_13 hM, mt_1042a hM, mt_1042b hM, mf_14 hM, mt_1074a hM, mt_1074b hM, mf_47 hM]
  refine c_238 hL0.1 (wb_1039 hL0.1.1) (by decide) (by decide) (fun hx e hB hO => ?_) (fun hx0 e hX hO => ?_)
  · have e := zask1_f e
    have hO := Off_bt hO0 hO
    have hB0 := BX_s (r := 1074) (i := 0) (v := 0) hB (by decide)
    have hB1 := BX_s (r := 1074) (i := 1) (v := 0) hB0 (by decide)
    have hB2 := BX_s (r := 1074) (i := 2) (v := 0) hB1 (by decide)
    have hB3 := BX_s (r := 1074) (i := 3) (v := 0) hB2 (by decide)
    simp (disch := omega) only [b_237_0, q_237_80, b_237_80, ↓w_iconst, ↓w_bipush, ↓w_aload_n_0, ↓w_getfield, ↓w_iastore, ↓w_nop, ↓w_return, ↓w_invokevirtual_1, ↓w_invokevirtual_2, stw_0, stw_i, stw_l, stw_r, ofK0, ofK1, ofK2, lst1, lst2, lkill, kont_none, kont_some, Int.reduceToNat, List.length_cons, List.length_nil, Nat.reduceAdd, Nat.reduceLeDiff, Nat.zero_le, true_and, and_true, if_true, if_false, ne_eq, Int.reduceEq, Int.reduceNeg, not_false_eq_true, not_true_eq_false, ↓reduceIte, Int.reduceLT, Int.reduceLE, and_self, or_true, true_or, or_false, false_or, false_and, and_false, ah_t_w, ah_m_w, ah_n_w, lst1_0, List.tail_cons, w32_i, zbd, lst2_0, mt_1036a hB.1, mt_1039a hB.1, mt_1039b hB.1, mf_11 hB.1, mt_1040a hB.1, mt_1040b hB.1, mf_12 hB.1, mt_1041a hB.1, mt_1041b hB.1, mf_13 hB.1, mt_1042a hB.1, mt_1042b hB.1, mf_14 hB.1, mt_1074a hB.1, mt_1074b hB.1, mf_47 hB.1, b_238 hB, b_244 hB, b_238 hB0, b_244 hB0, b_238 hB1, b_244 hB1, b_238 hB2, b_244 hB2, b_238 hB3, b_244 hB3, b_247 hB3]
    exact hq0 _ _ _ (by simp only [e, zth]) hB3 (wr3 (wr2 (wr1 (wr0 (hO)))))
  have ea0 := zask1_t e
  have hOa0 := Off_bt hO0 hO
  have hLa0 := LS_lx hL0 hX hO (fun r i w => w)
  clear e hO hX
  simp (disch := omega) only [b_237_0, ↓w_iconst, ↓w_aload_n_0, ↓w_getfield, ↓w_iastore, ↓w_nop, ↓w_invokevirtual_1, ↓w_invokevirtual_2, stw_0, stw_i, stw_l, stw_r, ofK0, ofK1, ofK2, lst1, lst2, lkill, kont_none, kont_some, Int.reduceToNat, List.length_cons, List.length_nil, Nat.reduceAdd, Nat.reduceLeDiff, Nat.zero_le, true_and, and_true, if_true, if_false, ne_eq, Int.reduceEq, Int.reduceNeg, not_false_eq_true, not_true_eq_false, ↓reduceIte, Int.reduceLT, Int.reduceLE, and_self, or_true, true_or, or_false, false_or, false_and, and_false, ah_t_w, ah_m_w, ah_n_w, lst1_0, List.tail_cons, w32_i, zbd, lst2_0, mt_1036a hLa0.1.1, mt_1039a hLa0.1.1, mt_1039b hLa0.1.1, mf_11 hLa0.1.1, mt_1040a hLa0.1.1, mt_1040b hLa0.1.1, mf_12 hLa0.1.1, mt_1041a hLa0.1.1, mt_1041b hLa0.1.1, mf_13 hLa0.1.1, mt_1042a hLa0.1.1, mt_1042b hLa0.1.1, mf_14 hLa0.1.1, mt_1074a hLa0.1.1, mt_1074b hLa0.1.1, mf_47 hLa0.1.1]
  refine c_244 hLa0.1 (by decide) (by decide) (fun hx z kk pp e hB hO => ?_) (fun hy0 q0 v0 en0 hX hO _ => ?_)
  · have hO := Off_bt hOa0 hO
    have hB0 := BX_s (r := 1074) (i := 0) (v := z) hB (by decide)
    have hB1 := BX_s (r := 1074) (i := 1) (v := 0) hB0 (by decide)
    have hB2 := BX_s (r := 1074) (i := 2) (v := 0) hB1 (by decide)
    have hB3 := BX_s (r := 1074) (i := 3) (v := 0) hB2 (by decide)
    simp (disch := omega) only [b_237_0, q_237_80, b_237_80, ↓w_iconst, ↓w_bipush, ↓w_aload_n_0, ↓w_getfield, ↓w_iastore, ↓w_nop, ↓w_return, ↓w_invokevirtual_1, ↓w_invokevirtual_2, stw_0, stw_i, stw_l, stw_r, ofK0, ofK1, ofK2, lst1, lst2, lkill, kont_none, kont_some, Int.reduceToNat, List.length_cons, List.length_nil, Nat.reduceAdd, Nat.reduceLeDiff, Nat.zero_le, true_and, and_true, if_true, if_false, ne_eq, Int.reduceEq, Int.reduceNeg, not_false_eq_true, not_true_eq_false, ↓reduceIte, Int.reduceLT, Int.reduceLE, and_self, or_true, true_or, or_false, false_or, false_and, and_false, ah_t_w, ah_m_w, ah_n_w, lst1_0, List.tail_cons, w32_i, zbd, lst2_0, mt_1036a hB.1, mt_1039a hB.1, mt_1039b hB.1, mf_11 hB.1, mt_1040a hB.1, mt_1040b hB.1, mf_12 hB.1, mt_1041a hB.1, mt_1041b hB.1, mf_13 hB.1, mt_1042a hB.1, mt_1042b hB.1, mf_14 hB.1, mt_1074a hB.1, mt_1074b hB.1, mf_47 hB.1, b_238 hB, b_244 hB, b_238 hB0, b_244 hB0, b_238 hB1, b_244 hB1, b_238 hB2, b_244 hB2, b_238 hB3, b_244 hB3, b_247 hB3]
    exact hq0 _ _ _ (by simp only [ea0, e, zth]) hB3 (wr3 (wr2 (wr1 (wr0 (hO)))))
  have hLb0 := LS_w (r := 1074) (i := 0) (v := v0) (LS_lx hLa0 hX hO (fun r i w => w)) (by decide)
  have hOb0 := wr0 (v := v0) (Off_bt hOa0 hO)
  simp (disch := omega) only [b_237_0, ↓w_iconst, ↓w_aload_n_0, ↓w_getfield, ↓w_iastore, ↓w_nop, ↓w_invokevirtual_1, ↓w_invokevirtual_2, stw_0, stw_i, stw_l, stw_r, ofK0, ofK1, ofK2, lst1, lst2, lkill, kont_none, kont_some, Int.reduceToNat, List.length_cons, List.length_nil, Nat.reduceAdd, Nat.reduceLeDiff, Nat.zero_le, true_and, and_true, if_true, if_false, ne_eq, Int.reduceEq, Int.reduceNeg, not_false_eq_true, not_true_eq_false, ↓reduceIte, Int.reduceLT, Int.reduceLE, and_self, or_true, true_or, or_false, false_or, false_and, and_false, ah_t_w, ah_m_w, ah_n_w, lst1_0, List.tail_cons, w32_i, zbd, lst2_0, mt_1036a hX.1, mt_1039a hX.1, mt_1039b hX.1, mf_11 hX.1, mt_1040a hX.1, mt_1040b hX.1, mf_12 hX.1, mt_1041a hX.1, mt_1041b hX.1, mf_13 hX.1, mt_1042a hX.1, mt_1042b hX.1, mf_14 hX.1, mt_1074a hX.1, mt_1074b hX.1, mf_47 hX.1]
  clear hO hX
  refine c_238 hLb0.1 (wb_1040 hLb0.1.1) (by decide) (by decide) (fun hx e hB hO => ?_) (fun hx1 e hX hO => ?_)
  · have e := zask1_f e
    have hO := Off_bt hOb0 hO
    have hB1 := BX_s (r := 1074) (i := 1) (v := 0) hB (by decide)
    have hB2 := BX_s (r := 1074) (i := 2) (v := 0) hB1 (by decide)
    have hB3 := BX_s (r := 1074) (i := 3) (v := 0) hB2 (by decide)
    simp (disch := omega) only [b_237_0, q_237_80, b_237_80, ↓w_iconst, ↓w_bipush, ↓w_aload_n_0, ↓w_getfield, ↓w_iastore, ↓w_nop, ↓w_return, ↓w_invokevirtual_1, ↓w_invokevirtual_2, stw_0, stw_i, stw_l, stw_r, ofK0, ofK1, ofK2, lst1, lst2, lkill, kont_none, kont_some, Int.reduceToNat, List.length_cons, List.length_nil, Nat.reduceAdd, Nat.reduceLeDiff, Nat.zero_le, true_and, and_true, if_true, if_false, ne_eq, Int.reduceEq, Int.reduceNeg, not_false_eq_true, not_true_eq_false, ↓reduceIte, Int.reduceLT, Int.reduceLE, and_self, or_true, true_or, or_false, false_or, false_and, and_false, ah_t_w, ah_m_w, ah_n_w, lst1_0, List.tail_cons, w32_i, zbd, lst2_0, mt_1036a hB.1, mt_1039a hB.1, mt_1039b hB.1, mf_11 hB.1, mt_1040a hB.1, mt_1040b hB.1, mf_12 hB.1, mt_1041a hB.1, mt_1041b hB.1, mf_13 hB.1, mt_1042a hB.1, mt_1042b hB.1, mf_14 hB.1, mt_1074a hB.1, mt_1074b hB.1, mf_47 hB.1, b_238 hB, b_244 hB, b_238 hB1, b_244 hB1, b_238 hB2, b_244 hB2, b_238 hB3, b_244 hB3, b_247 hB3]
    exact hq0 _ _ _ (by simp only [ea0, en0, e, zth]) hB3 (wr3 (wr2 (wr1 (hO))))
  have ea1 := zask1_t e
  have hOa1 := Off_bt hOb0 hO
  have hLa1 := LS_lx hLb0 hX hO (fun r i w => w)
  clear e hO hX
  simp (disch := omega) only [b_237_0, ↓w_iconst, ↓w_aload_n_0, ↓w_getfield, ↓w_iastore, ↓w_nop, ↓w_invokevirtual_1, ↓w_invokevirtual_2, stw_0, stw_i, stw_l, stw_r, ofK0, ofK1, ofK2, lst1, lst2, lkill, kont_none, kont_some, Int.reduceToNat, List.length_cons, List.length_nil, Nat.reduceAdd, Nat.reduceLeDiff, Nat.zero_le, true_and, and_true, if_true, if_false, ne_eq, Int.reduceEq, Int.reduceNeg, not_false_eq_true, not_true_eq_false, ↓reduceIte, Int.reduceLT, Int.reduceLE, and_self, or_true, true_or, or_false, false_or, false_and, and_false, ah_t_w, ah_m_w, ah_n_w, lst1_0, List.tail_cons, w32_i, zbd, lst2_0, mt_1036a hLa1.1.1, mt_1039a hLa1.1.1, mt_1039b hLa1.1.1, mf_11 hLa1.1.1, mt_1040a hLa1.1.1, mt_1040b hLa1.1.1, mf_12 hLa1.1.1, mt_1041a hLa1.1.1, mt_1041b hLa1.1.1, mf_13 hLa1.1.1, mt_1042a hLa1.1.1, mt_1042b hLa1.1.1, mf_14 hLa1.1.1, mt_1074a hLa1.1.1, mt_1074b hLa1.1.1, mf_47 hLa1.1.1]
  refine c_244 hLa1.1 (by decide) (by decide) (fun hx z kk pp e hB hO => ?_) (fun hy1 q1 v1 en1 hX hO _ => ?_)
  · have hO := Off_bt hOa1 hO
    have hB1 := BX_s (r := 1074) (i := 1) (v := z) hB (by decide)
    have hB2 := BX_s (r := 1074) (i := 2) (v := 0) hB1 (by decide)
    have hB3 := BX_s (r := 1074) (i := 3) (v := 0) hB2 (by decide)
    simp (disch := omega) only [b_237_0, q_237_80, b_237_80, ↓w_iconst, ↓w_bipush, ↓w_aload_n_0, ↓w_getfield, ↓w_iastore, ↓w_nop, ↓w_return, ↓w_invokevirtual_1, ↓w_invokevirtual_2, stw_0, stw_i, stw_l, stw_r, ofK0, ofK1, ofK2, lst1, lst2, lkill, kont_none, kont_some, Int.reduceToNat, List.length_cons, List.length_nil, Nat.reduceAdd, Nat.reduceLeDiff, Nat.zero_le, true_and, and_true, if_true, if_false, ne_eq, Int.reduceEq, Int.reduceNeg, not_false_eq_true, not_true_eq_false, ↓reduceIte, Int.reduceLT, Int.reduceLE, and_self, or_true, true_or, or_false, false_or, false_and, and_false, ah_t_w, ah_m_w, ah_n_w, lst1_0, List.tail_cons, w32_i, zbd, lst2_0, mt_1036a hB.1, mt_1039a hB.1, mt_1039b hB.1, mf_11 hB.1, mt_1040a hB.1, mt_1040b hB.1, mf_12 hB.1, mt_1041a hB.1, mt_1041b hB.1, mf_13 hB.1, mt_1042a hB.1, mt_1042b hB.1, mf_14 hB.1, mt_1074a hB.1, mt_1074b hB.1, mf_47 hB.1, b_238 hB, b_244 hB, b_238 hB1, b_244 hB1, b_238 hB2, b_244 hB2, b_238 hB3, b_244 hB3, b_247 hB3]
    exact hq0 _ _ _ (by simp only [ea0, en0, ea1, e, zth]) hB3 (wr3 (wr2 (wr1 (hO))))
  have hLb1 := LS_w (r := 1074) (i := 1) (v := v1) (LS_lx hLa1 hX hO (fun r i w => w)) (by decide)
  have hOb1 := wr1 (v := v1) (Off_bt hOa1 hO)
  simp (disch := omega) only [b_237_0, ↓w_iconst, ↓w_aload_n_0, ↓w_getfield, ↓w_iastore, ↓w_nop, ↓w_invokevirtual_1, ↓w_invokevirtual_2, stw_0, stw_i, stw_l, stw_r, ofK0, ofK1, ofK2, lst1, lst2, lkill, kont_none, kont_some, Int.reduceToNat, List.length_cons, List.length_nil, Nat.reduceAdd, Nat.reduceLeDiff, Nat.zero_le, true_and, and_true, if_true, if_false, ne_eq, Int.reduceEq, Int.reduceNeg, not_false_eq_true, not_true_eq_false, ↓reduceIte, Int.reduceLT, Int.reduceLE, and_self, or_true, true_or, or_false, false_or, false_and, and_false, ah_t_w, ah_m_w, ah_n_w, lst1_0, List.tail_cons, w32_i, zbd, lst2_0, mt_1036a hX.1, mt_1039a hX.1, mt_1039b hX.1, mf_11 hX.1, mt_1040a hX.1, mt_1040b hX.1, mf_12 hX.1, mt_1041a hX.1, mt_1041b hX.1, mf_13 hX.1, mt_1042a hX.1, mt_1042b hX.1, mf_14 hX.1, mt_1074a hX.1, mt_1074b hX.1, mf_47 hX.1]
  clear hO hX
  refine c_238 hLb1.1 (wb_1041 hLb1.1.1) (by decide) (by decide) (fun hx e hB hO => ?_) (fun hx2 e hX hO => ?_)
  · have e := zask1_f e
    have hO := Off_bt hOb1 hO
    have hB2 := BX_s (r := 1074) (i := 2) (v := 0) hB (by decide)
    have hB3 := BX_s (r := 1074) (i := 3) (v := 0) hB2 (by decide)
    simp (disch := omega) only [b_237_0, q_237_80, b_237_80, ↓w_iconst, ↓w_bipush, ↓w_aload_n_0, ↓w_getfield, ↓w_iastore, ↓w_nop, ↓w_return, ↓w_invokevirtual_1, ↓w_invokevirtual_2, stw_0, stw_i, stw_l, stw_r, ofK0, ofK1, ofK2, lst1, lst2, lkill, kont_none, kont_some, Int.reduceToNat, List.length_cons, List.length_nil, Nat.reduceAdd, Nat.reduceLeDiff, Nat.zero_le, true_and, and_true, if_true, if_false, ne_eq, Int.reduceEq, Int.reduceNeg, not_false_eq_true, not_true_eq_false, ↓reduceIte, Int.reduceLT, Int.reduceLE, and_self, or_true, true_or, or_false, false_or, false_and, and_false, ah_t_w, ah_m_w, ah_n_w, lst1_0, List.tail_cons, w32_i, zbd, lst2_0, mt_1036a hB.1, mt_1039a hB.1, mt_1039b hB.1, mf_11 hB.1, mt_1040a hB.1, mt_1040b hB.1, mf_12 hB.1, mt_1041a hB.1, mt_1041b hB.1, mf_13 hB.1, mt_1042a hB.1, mt_1042b hB.1, mf_14 hB.1, mt_1074a hB.1, mt_1074b hB.1, mf_47 hB.1, b_238 hB, b_244 hB, b_238 hB2, b_244 hB2, b_238 hB3, b_244 hB3, b_247 hB3]
    exact hq0 _ _ _ (by simp only [ea0, en0, ea1, en1, e, zth]) hB3 (wr3 (wr2 (hO)))
  have ea2 := zask1_t e
  have hOa2 := Off_bt hOb1 hO
  have hLa2 := LS_lx hLb1 hX hO (fun r i w => w)
  clear e hO hX
  simp (disch := omega) only [b_237_0, ↓w_iconst, ↓w_aload_n_0, ↓w_getfield, ↓w_iastore, ↓w_nop, ↓w_invokevirtual_1, ↓w_invokevirtual_2, stw_0, stw_i, stw_l, stw_r, ofK0, ofK1, ofK2, lst1, lst2, lkill, kont_none, kont_some, Int.reduceToNat, List.length_cons, List.length_nil, Nat.reduceAdd, Nat.reduceLeDiff, Nat.zero_le, true_and, and_true, if_true, if_false, ne_eq, Int.reduceEq, Int.reduceNeg, not_false_eq_true, not_true_eq_false, ↓reduceIte, Int.reduceLT, Int.reduceLE, and_self, or_true, true_or, or_false, false_or, false_and, and_false, ah_t_w, ah_m_w, ah_n_w, lst1_0, List.tail_cons, w32_i, zbd, lst2_0, mt_1036a hLa2.1.1, mt_1039a hLa2.1.1, mt_1039b hLa2.1.1, mf_11 hLa2.1.1, mt_1040a hLa2.1.1, mt_1040b hLa2.1.1, mf_12 hLa2.1.1, mt_1041a hLa2.1.1, mt_1041b hLa2.1.1, mf_13 hLa2.1.1, mt_1042a hLa2.1.1, mt_1042b hLa2.1.1, mf_14 hLa2.1.1, mt_1074a hLa2.1.1, mt_1074b hLa2.1.1, mf_47 hLa2.1.1]
  refine c_244 hLa2.1 (by decide) (by decide) (fun hx z kk pp e hB hO => ?_) (fun hy2 q2 v2 en2 hX hO _ => ?_)
  · have hO := Off_bt hOa2 hO
    have hB2 := BX_s (r := 1074) (i := 2) (v := z) hB (by decide)
    have hB3 := BX_s (r := 1074) (i := 3) (v := 0) hB2 (by decide)
    simp (disch := omega) only [b_237_0, q_237_80, b_237_80, ↓w_iconst, ↓w_bipush, ↓w_aload_n_0, ↓w_getfield, ↓w_iastore, ↓w_nop, ↓w_return, ↓w_invokevirtual_1, ↓w_invokevirtual_2, stw_0, stw_i, stw_l, stw_r, ofK0, ofK1, ofK2, lst1, lst2, lkill, kont_none, kont_some, Int.reduceToNat, List.length_cons, List.length_nil, Nat.reduceAdd, Nat.reduceLeDiff, Nat.zero_le, true_and, and_true, if_true, if_false, ne_eq, Int.reduceEq, Int.reduceNeg, not_false_eq_true, not_true_eq_false, ↓reduceIte, Int.reduceLT, Int.reduceLE, and_self, or_true, true_or, or_false, false_or, false_and, and_false, ah_t_w, ah_m_w, ah_n_w, lst1_0, List.tail_cons, w32_i, zbd, lst2_0, mt_1036a hB.1, mt_1039a hB.1, mt_1039b hB.1, mf_11 hB.1, mt_1040a hB.1, mt_1040b hB.1, mf_12 hB.1, mt_1041a hB.1, mt_1041b hB.1, mf_13 hB.1, mt_1042a hB.1, mt_1042b hB.1, mf_14 hB.1, mt_1074a hB.1, mt_1074b hB.1, mf_47 hB.1, b_238 hB, b_244 hB, b_238 hB2, b_244 hB2, b_238 hB3, b_244 hB3, b_247 hB3]
    exact hq0 _ _ _ (by simp only [ea0, en0, ea1, en1, ea2, e, zth]) hB3 (wr3 (wr2 (hO)))
  have hLb2 := LS_w (r := 1074) (i := 2) (v := v2) (LS_lx hLa2 hX hO (fun r i w => w)) (by decide)
  have hOb2 := wr2 (v := v2) (Off_bt hOa2 hO)
  simp (disch := omega) only [b_237_0, ↓w_iconst, ↓w_aload_n_0, ↓w_getfield, ↓w_iastore, ↓w_nop, ↓w_invokevirtual_1, ↓w_invokevirtual_2, stw_0, stw_i, stw_l, stw_r, ofK0, ofK1, ofK2, lst1, lst2, lkill, kont_none, kont_some, Int.reduceToNat, List.length_cons, List.length_nil, Nat.reduceAdd, Nat.reduceLeDiff, Nat.zero_le, true_and, and_true, if_true, if_false, ne_eq, Int.reduceEq, Int.reduceNeg, not_false_eq_true, not_true_eq_false, ↓reduceIte, Int.reduceLT, Int.reduceLE, and_self, or_true, true_or, or_false, false_or, false_and, and_false, ah_t_w, ah_m_w, ah_n_w, lst1_0, List.tail_cons, w32_i, zbd, lst2_0, mt_1036a hX.1, mt_1039a hX.1, mt_1039b hX.1, mf_11 hX.1, mt_1040a hX.1, mt_1040b hX.1, mf_12 hX.1, mt_1041a hX.1, mt_1041b hX.1, mf_13 hX.1, mt_1042a hX.1, mt_1042b hX.1, mf_14 hX.1, mt_1074a hX.1, mt_1074b hX.1, mf_47 hX.1]
  clear hO hX
  refine c_238 hLb2.1 (wb_1042 hLb2.1.1) (by decide) (by decide) (fun hx e hB hO => ?_) (fun hx3 e hX hO => ?_)
  · have e := zask1_f e
    have hO := Off_bt hOb2 hO
    have hB3 := BX_s (r := 1074) (i := 3) (v := 0) hB (by decide)
    simp (disch := omega) only [b_237_0, q_237_80, b_237_80, ↓w_iconst, ↓w_bipush, ↓w_aload_n_0, ↓w_getfield, ↓w_iastore, ↓w_nop, ↓w_return, ↓w_invokevirtual_1, ↓w_invokevirtual_2, stw_0, stw_i, stw_l, stw_r, ofK0, ofK1, ofK2, lst1, lst2, lkill, kont_none, kont_some, Int.reduceToNat, List.length_cons, List.length_nil, Nat.reduceAdd, Nat.reduceLeDiff, Nat.zero_le, true_and, and_true, if_true, if_false, ne_eq, Int.reduceEq, Int.reduceNeg, not_false_eq_true, not_true_eq_false, ↓reduceIte, Int.reduceLT, Int.reduceLE, and_self, or_true, true_or, or_false, false_or, false_and, and_false, ah_t_w, ah_m_w, ah_n_w, lst1_0, List.tail_cons, w32_i, zbd, lst2_0, mt_1036a hB.1, mt_1039a hB.1, mt_1039b hB.1, mf_11 hB.1, mt_1040a hB.1, mt_1040b hB.1, mf_12 hB.1, mt_1041a hB.1, mt_1041b hB.1, mf_13 hB.1, mt_1042a hB.1, mt_1042b hB.1, mf_14 hB.1, mt_1074a hB.1, mt_1074b hB.1, mf_47 hB.1, b_238 hB, b_244 hB, b_238 hB3, b_244 hB3, b_247 hB3]
    exact hq0 _ _ _ (by simp only [ea0, en0, ea1, en1, ea2, en2, e, zth]) hB3 (wr3 (hO))
  have ea3 := zask1_t e
  have hOa3 := Off_bt hOb2 hO
  have hLa3 := LS_lx hLb2 hX hO (fun r i w => w)
  clear e hO hX
  simp (disch := omega) only [b_237_0, ↓w_iconst, ↓w_aload_n_0, ↓w_getfield, ↓w_iastore, ↓w_nop, ↓w_invokevirtual_1, ↓w_invokevirtual_2, stw_0, stw_i, stw_l, stw_r, ofK0, ofK1, ofK2, lst1, lst2, lkill, kont_none, kont_some, Int.reduceToNat, List.length_cons, List.length_nil, Nat.reduceAdd, Nat.reduceLeDiff, Nat.zero_le, true_and, and_true, if_true, if_false, ne_eq, Int.reduceEq, Int.reduceNeg, not_false_eq_true, not_true_eq_false, ↓reduceIte, Int.reduceLT, Int.reduceLE, and_self, or_true, true_or, or_false, false_or, false_and, and_false, ah_t_w, ah_m_w, ah_n_w, lst1_0, List.tail_cons, w32_i, zbd, lst2_0, mt_1036a hLa3.1.1, mt_1039a hLa3.1.1, mt_1039b hLa3.1.1, mf_11 hLa3.1.1, mt_1040a hLa3.1.1, mt_1040b hLa3.1.1, mf_12 hLa3.1.1, mt_1041a hLa3.1.1, mt_1041b hLa3.1.1, mf_13 hLa3.1.1, mt_1042a hLa3.1.1, mt_1042b hLa3.1.1, mf_14 hLa3.1.1, mt_1074a hLa3.1.1, mt_1074b hLa3.1.1, mf_47 hLa3.1.1]
  refine c_244 hLa3.1 (by decide) (by decide) (fun hx z kk pp e hB hO => ?_) (fun hy3 q3 v3 en3 hX hO _ => ?_)
  · have hO := Off_bt hOa3 hO
    have hB3 := BX_s (r := 1074) (i := 3) (v := z) hB (by decide)
    simp (disch := omega) only [b_237_0, q_237_80, b_237_80, ↓w_iconst, ↓w_bipush, ↓w_aload_n_0, ↓w_getfield, ↓w_iastore, ↓w_nop, ↓w_return, ↓w_invokevirtual_1, ↓w_invokevirtual_2, stw_0, stw_i, stw_l, stw_r, ofK0, ofK1, ofK2, lst1, lst2, lkill, kont_none, kont_some, Int.reduceToNat, List.length_cons, List.length_nil, Nat.reduceAdd, Nat.reduceLeDiff, Nat.zero_le, true_and, and_true, if_true, if_false, ne_eq, Int.reduceEq, Int.reduceNeg, not_false_eq_true, not_true_eq_false, ↓reduceIte, Int.reduceLT, Int.reduceLE, and_self, or_true, true_or, or_false, false_or, false_and, and_false, ah_t_w, ah_m_w, ah_n_w, lst1_0, List.tail_cons, w32_i, zbd, lst2_0, mt_1036a hB.1, mt_1039a hB.1, mt_1039b hB.1, mf_11 hB.1, mt_1040a hB.1, mt_1040b hB.1, mf_12 hB.1, mt_1041a hB.1, mt_1041b hB.1, mf_13 hB.1, mt_1042a hB.1, mt_1042b hB.1, mf_14 hB.1, mt_1074a hB.1, mt_1074b hB.1, mf_47 hB.1, b_238 hB, b_244 hB, b_238 hB3, b_244 hB3, b_247 hB3]
    exact hq0 _ _ _ (by simp only [ea0, en0, ea1, en1, ea2, en2, ea3, e, zth]) hB3 (wr3 (hO))
  have hLb3 := LS_w (r := 1074) (i := 3) (v := v3) (LS_lx hLa3 hX hO (fun r i w => w)) (by decide)
  have hOb3 := wr3 (v := v3) (Off_bt hOa3 hO)
  simp (disch := omega) only [b_237_0, q_237_80, b_237_80, ↓w_iconst, ↓w_bipush, ↓w_aload_n_0, ↓w_getfield, ↓w_iastore, ↓w_nop, ↓w_return, ↓w_invokevirtual_1, ↓w_invokevirtual_2, stw_0, stw_i, stw_l, stw_r, ofK0, ofK1, ofK2, lst1, lst2, lkill, kont_none, kont_some, Int.reduceToNat, List.length_cons, List.length_nil, Nat.reduceAdd, Nat.reduceLeDiff, Nat.zero_le, true_and, and_true, if_true, if_false, ne_eq, Int.reduceEq, Int.reduceNeg, not_false_eq_true, not_true_eq_false, ↓reduceIte, Int.reduceLT, Int.reduceLE, and_self, or_true, true_or, or_false, false_or, false_and, and_false, ah_t_w, ah_m_w, ah_n_w, lst1_0, List.tail_cons, w32_i, zbd, lst2_0, mt_1036a hX.1, mt_1039a hX.1, mt_1039b hX.1, mf_11 hX.1, mt_1040a hX.1, mt_1040b hX.1, mf_12 hX.1, mt_1041a hX.1, mt_1041b hX.1, mf_13 hX.1, mt_1042a hX.1, mt_1042b hX.1, mf_14 hX.1, mt_1074a hX.1, mt_1074b hX.1, mf_47 hX.1]
  clear hO hX
  refine c_247 hLb3.1 (by decide) (fun hx ne hB hO => ?_) (fun hx e59 hX hO => ?_)
  · simp (disch := omega) only [b_237_80, ↓w_bipush, ↓w_aload_n_0, ↓w_return, ↓w_invokevirtual_1, stw_0, stw_i, stw_l, stw_r, ofK0, ofK1, ofK2, lst1, lst2, lkill, kont_none, kont_some, Int.reduceToNat, List.length_cons, List.length_nil, Nat.reduceAdd, Nat.reduceLeDiff, Nat.zero_le, true_and, and_true, if_true, if_false, ne_eq, Int.reduceEq, Int.reduceNeg, not_false_eq_true, not_true_eq_false, ↓reduceIte, Int.reduceLT, Int.reduceLE, and_self, or_true, true_or, or_false, false_or, false_and, and_false, ah_t_w, ah_m_w, ah_n_w, lst1_0, List.tail_cons, w32_i, zbd, lst2_0]
    exact hq0 _ 1 _ (by simp only [ea0, en0, ea1, en1, ea2, en2, ea3, en3, zth, zsgn1]; rw [if_neg ne]) hB (Off_bt hOb3 hO)
  · simp (disch := omega) only [b_237_80, ↓w_bipush, ↓w_aload_n_0, ↓w_return, ↓w_invokevirtual_1, stw_0, stw_i, stw_l, stw_r, ofK0, ofK1, ofK2, lst1, lst2, lkill, kont_none, kont_some, Int.reduceToNat, List.length_cons, List.length_nil, Nat.reduceAdd, Nat.reduceLeDiff, Nat.zero_le, true_and, and_true, if_true, if_false, ne_eq, Int.reduceEq, Int.reduceNeg, not_false_eq_true, not_true_eq_false, ↓reduceIte, Int.reduceLT, Int.reduceLE, and_self, or_true, true_or, or_false, false_or, false_and, and_false, ah_t_w, ah_m_w, ah_n_w, lst1_0, List.tail_cons, w32_i, zbd, lst2_0]
    exact hq1 _ _ _ (by simp only [ea0, en0, ea1, en1, ea2, en2, ea3, en3, zth, zsgn1]; rw [if_pos e59]) (LS_lx hLb3 hX hO (fun r i w => Wat_lx w)) (Off_tr hOb3 (Off_mono (fun r i w => Or.inl (Wat_lx w)) hO))
/-- copies in a heap of M -/
def ST (S : Int → Int → Int) (h : AH) : Prop := MI h ∧ stt h = S
theorem ST_r (hS : ST S h) (hr : 1072 ≤ r ∧ r ≤ 1082) : ah_m h r = S r := by rw [← hS.2]; exact stt_r hr.1 hr.2
theorem ST_w {i : Int} (hS : ST S h) (hr : 1072 ≤ r ∧ r ≤ 1082) : ST (zw S r i v) (ah_w h r i v) := ⟨MI_w hS.1 (by unfold fre; omega), by rw [stt_w hr, hS.2]⟩
theorem zcp_s {row off : Int} (hk : 0 ≤ k) (hoff : k < off) : zw (zcp S row off k) row (off + k) (zcp S row off k row k) = zcp S row off (k + 1) := by
  funext r i
  unfold zw zcp
  by_cases e : r = row ∧ i = off + k
  · rw [if_pos e, if_neg (by omega), if_pos (by omega)]
    congr 1; omega
  · rw [if_neg e]
    by_cases e2 : r = row ∧ off ≤ i ∧ i < off + k
    · rw [if_pos e2, if_pos (by omega)]
    · rw [if_neg e2, if_neg (by omega)]
theorem zcp_0 {row off : Int} : zcp S row off 0 = S := by
  funext r i; unfold zcp; rw [if_neg (by omega)]
theorem l_276_7 (hQ : ∀ h' tl, ST (zcp S 1072 3 3) h' → Off (fun r _ => 1072 ≤ r ∧ r ≤ 1082) h h' → wpB d 276 32 (some (.inr (.inr 1036)) :: tl) [] h' Q) : ∀ (j : Nat) (k : Int) tl h', 0 ≤ k → k + j = 3 → ST (zcp S 1072 3 k) h' → Off (fun r _ => 1072 ≤ r ∧ r ≤ 1082) h h' → wpB d 276 7 (some (.inr (.inr 1036)) :: some (.inl k) :: tl) [] h' Q := by
  intro j
  induction j with
  | zero =>
    intro k tl h' k0 k1 hS hO
    have hlt : ¬ k < 3 := by omega
    have ek : k = 3 := by omega
    simp (disch := omega) only [q_276_7, b_276_7, ↓w_iconst, ↓w_aload_n_0, ↓w_iload_n_1, ↓w_iinc_1, ↓w_iadd, ↓w_getfield, ↓w_iaload, ↓w_iastore, ↓w_goto, ↓w_if_icmp_ge, stw_0, stw_i, stw_l, stw_r, ofK0, ofK1, ofK2, lst1, lst2, lkill, kont_none, kont_some, Int.reduceToNat, List.length_cons, List.length_nil, Nat.reduceAdd, Nat.reduceLeDiff, Nat.zero_le, true_and, and_true, if_true, if_false, ne_eq, Int.reduceEq, Int.reduceNeg, not_false_eq_true, not_true_eq_false, ↓reduceIte, Int.reduceLT, Int.reduceLE, and_self, or_true, true_or, or_false, false_or, false_and, and_false, ah_t_w, ah_m_w, ah_n_w, lst1_0, List.tail_cons, w32_i, zbd, lst2_0, hlt]
    exact hQ _ _ (ek ▸ hS) hO
  | succ j ih =>
    intro k tl h' k0 k1 hS hO
    have hlt : k < 3 := by omega
    have hM := hS.1
    have er := ST_r hS (r := 1072) (by decide)
    rw [q_276_7]
    simp (disch := omega) only [b_276_7, ↓w_iconst, ↓w_aload_n_0, ↓w_iload_n_1, ↓w_iinc_1, ↓w_iadd, ↓w_getfield, ↓w_iaload, ↓w_iastore, ↓w_goto, ↓w_if_icmp_ge, stw_0, stw_i, stw_l, stw_r, ofK0, ofK1, ofK2, lst1, lst2, lkill, kont_none, kont_some, Int.reduceToNat, List.length_cons, List.length_nil, Nat.reduceAdd, Nat.reduceLeDiff, Nat.zero_le, true_and, and_true, if_true, if_false, ne_eq, Int.reduceEq, Int.reduceNeg, not_false_eq_true, not_true_eq_false, ↓reduceIte, Int.reduceLT, Int.reduceLE, and_self, or_true, true_or, or_false, false_or, false_and, and_false, ah_t_w, ah_m_w, ah_n_w, lst1_0, List.tail_cons, w32_i, zbd, lst2_0, mt_1036a hM, mt_1072a hM, mt_1072b hM, mf_45 hM, hlt, er]
    refine ih (k + 1) _ _ (by omega) (by omega) ?_ (Off_w hO (by omega))
    have := ST_w (r := 1072) (i := 3 + k) (v := zcp S 1072 3 k 1072 k) hS (by decide)
    rw [zcp_s k0 (by omega)] at this
    exact this
theorem l_276_34 (hQ : ∀ h' tl, ST (zcp S 1073 24 24) h' → Off (fun r _ => 1072 ≤ r ∧ r ≤ 1082) h h' → wpB d 276 61 (some (.inr (.inr 1036)) :: tl) [] h' Q) : ∀ (j : Nat) (k : Int) tl h', 0 ≤ k → k + j = 24 → ST (zcp S 1073 24 k) h' → Off (fun r _ => 1072 ≤ r ∧ r ≤ 1082) h h' → wpB d 276 34 (some (.inr (.inr 1036)) :: some (.inl k) :: tl) [] h' Q := by
  intro j
  induction j with
  | zero =>
    intro k tl h' k0 k1 hS hO
    have hlt : ¬ k < 24 := by omega
    have ek : k = 24 := by omega
    simp (disch := omega) only [q_276_34, b_276_34, ↓w_bipush, ↓w_aload_n_0, ↓w_iload_n_1, ↓w_iinc_1, ↓w_iadd, ↓w_getfield, ↓w_laload, ↓w_lastore, ↓w_goto, ↓w_if_icmp_ge, stw_0, stw_i, stw_l, stw_r, ofK0, ofK1, ofK2, lst1, lst2, lkill, kont_none, kont_some, Int.reduceToNat, List.length_cons, List.length_nil, Nat.reduceAdd, Nat.reduceLeDiff, Nat.zero_le, true_and, and_true, if_true, if_false, ne_eq, Int.reduceEq, Int.reduceNeg, not_false_eq_true, not_true_eq_false, ↓reduceIte, Int.reduceLT, Int.reduceLE, and_self, or_true, true_or, or_false, false_or, false_and, and_false, ah_t_w, ah_m_w, ah_n_w, lst1_0, List.tail_cons, w32_i, zbd, lst2_0, hlt]
    exact hQ _ _ (ek ▸ hS) hO
  | succ j ih =>
    intro k tl h' k0 k1 hS hO
    have hlt : k < 24 := by omega
    have hM := hS.1
    have er := ST_r hS (r := 1073) (by decide)
    rw [q_276_34]
    simp (disch := omega) only [b_276_34, ↓w_bipush, ↓w_aload_n_0, ↓w_iload_n_1, ↓w_iinc_1, ↓w_iadd, ↓w_getfield, ↓w_laload, ↓w_lastore, ↓w_goto, ↓w_if_icmp_ge, stw_0, stw_i, stw_l, stw_r, ofK0, ofK1, ofK2, lst1, lst2, lkill, kont_none, kont_some, Int.reduceToNat, List.length_cons, List.length_nil, Nat.reduceAdd, Nat.reduceLeDiff, Nat.zero_le, true_and, and_true, if_true, if_false, ne_eq, Int.reduceEq, Int.reduceNeg, not_false_eq_true, not_true_eq_false, ↓reduceIte, Int.reduceLT, Int.reduceLE, and_self, or_true, true_or, or_false, false_or, false_and, and_false, ah_t_w, ah_m_w, ah_n_w, lst1_0, List.tail_cons, w32_i, zbd, lst2_0, mt_1036a hM, mt_1073a hM, mt_1073b hM, mf_46 hM, hlt, er]
    refine ih (k + 1) _ _ (by omega) (by omega) ?_ (Off_w hO (by omega))
    have := ST_w (r := 1073) (i := 24 + k) (v := zcp S 1073 24 k 1073 k) hS (by decide)
    rw [zcp_s k0 (by omega)] at this
    exact this
theorem l_276_63 (hQ : ∀ h' tl, ST (zcp S 1074 4 4) h' → Off (fun r _ => 1072 ≤ r ∧ r ≤ 1082) h h' → wpB d 276 88 (some (.inr (.inr 1036)) :: tl) [] h' Q) : ∀ (j : Nat) (k : Int) tl h', 0 ≤ k → k + j = 4 → ST (zcp S 1074 4 k) h' → Off (fun r _ => 1072 ≤ r ∧ r ≤ 1082) h h' → wpB d 276 63 (some (.inr (.inr 1036)) :: some (.inl k) :: tl) [] h' Q := by
  intro j
  induction j with
  | zero =>
    intro k tl h' k0 k1 hS hO
    have hlt : ¬ k < 4 := by omega
    have ek : k = 4 := by omega
    simp (disch := omega) only [q_276_63, b_276_63, ↓w_iconst, ↓w_aload_n_0, ↓w_iload_n_1, ↓w_iinc_1, ↓w_iadd, ↓w_getfield, ↓w_iaload, ↓w_iastore, ↓w_goto, ↓w_if_icmp_ge, stw_0, stw_i, stw_l, stw_r, ofK0, ofK1, ofK2, lst1, lst2, lkill, kont_none, kont_some, Int.reduceToNat, List.length_cons, List.length_nil, Nat.reduceAdd, Nat.reduceLeDiff, Nat.zero_le, true_and, and_true, if_true, if_false, ne_eq, Int.reduceEq, Int.reduceNeg, not_false_eq_true, not_true_eq_false, ↓reduceIte, Int.reduceLT, Int.reduceLE, and_self, or_true, true_or, or_false, false_or, false_and, and_false, ah_t_w, ah_m_w, ah_n_w, lst1_0, List.tail_cons, w32_i, zbd, lst2_0, hlt]
    exact hQ _ _ (ek ▸ hS) hO
  | succ j ih =>
    intro k tl h' k0 k1 hS hO
    have hlt : k < 4 := by omega
    have hM := hS.1
    have er := ST_r hS (r := 1074) (by decide)
    rw [q_276_63]
    simp (disch := omega) only [b_276_63, ↓w_iconst, ↓w_aload_n_0, ↓w_iload_n_1, ↓w_iinc_1, ↓w_iadd, ↓w_getfield, ↓w_iaload, ↓w_iastore, ↓w_goto, ↓w_if_icmp_ge, stw_0, stw_i, stw_l, stw_r, ofK0, ofK1, ofK2, lst1, lst2, lkill, kont_none, kont_some, Int.reduceToNat, List.length_cons, List.length_nil, Nat.reduceAdd, Nat.reduceLeDiff, Nat.zero_le, true_and, and_true, if_true, if_false, ne_eq, Int.reduceEq, Int.reduceNeg, not_false_eq_true, not_true_eq_false, ↓reduceIte, Int.reduceLT, Int.reduceLE, and_self, or_true, true_or, or_false, false_or, false_and, and_false, ah_t_w, ah_m_w, ah_n_w, lst1_0, List.tail_cons, w32_i, zbd, lst2_0, mt_1036a hM, mt_1074a hM, mt_1074b hM, mf_47 hM, hlt, er]
    refine ih (k + 1) _ _ (by omega) (by omega) ?_ (Off_w hO (by omega))
    have := ST_w (r := 1074) (i := 4 + k) (v := zcp S 1074 4 k 1074 k) hS (by decide)
    rw [zcp_s k0 (by omega)] at this
    exact this
theorem l_276_90 (hQ : ∀ h' tl, ST (zcp S 1075 20 20) h' → Off (fun r _ => 1072 ≤ r ∧ r ≤ 1082) h h' → wpB d 276 117 (some (.inr (.inr 1036)) :: tl) [] h' Q) : ∀ (j : Nat) (k : Int) tl h', 0 ≤ k → k + j = 20 → ST (zcp S 1075 20 k) h' → Off (fun r _ => 1072 ≤ r ∧ r ≤ 1082) h h' → wpB d 276 90 (some (.inr (.inr 1036)) :: some (.inl k) :: tl) [] h' Q := by
  intro j
  induction j with
  | zero =>
    intro k tl h' k0 k1 hS hO
    have hlt : ¬ k < 20 := by omega
    have ek : k = 20 := by omega
    simp (disch := omega) only [q_276_90, b_276_90, ↓w_bipush, ↓w_aload_n_0, ↓w_iload_n_1, ↓w_iinc_1, ↓w_iadd, ↓w_getfield, ↓w_iaload, ↓w_iastore, ↓w_goto, ↓w_if_icmp_ge, stw_0, stw_i, stw_l, stw_r, ofK0, ofK1, ofK2, lst1, lst2, lkill, kont_none, kont_some, Int.reduceToNat, List.length_cons, List.length_nil, Nat.reduceAdd, Nat.reduceLeDiff, Nat.zero_le, true_and, and_true, if_true, if_false, ne_eq, Int.reduceEq, Int.reduceNeg, not_false_eq_true, not_true_eq_false, ↓reduceIte, Int.reduceLT, Int.reduceLE, and_self, or_true, true_or, or_false, false_or, false_and, and_false, ah_t_w, ah_m_w, ah_n_w, lst1_0, List.tail_cons, w32_i, zbd, lst2_0, hlt]
    exact hQ _ _ (ek ▸ hS) hO
  | succ j ih =>
    intro k tl h' k0 k1 hS hO
    have hlt : k < 20 := by omega
    have hM := hS.1
    have er := ST_r hS (r := 1075) (by decide)
    rw [q_276_90]
    simp (disch := omega) only [b_276_90, ↓w_bipush, ↓w_aload_n_0, ↓w_iload_n_1, ↓w_iinc_1, ↓w_iadd, ↓w_getfield, ↓w_iaload, ↓w_iastore, ↓w_goto, ↓w_if_icmp_ge, stw_0, stw_i, stw_l, stw_r, ofK0, ofK1, ofK2, lst1, lst2, lkill, kont_none, kont_some, Int.reduceToNat, List.length_cons, List.length_nil, Nat.reduceAdd, Nat.reduceLeDiff, Nat.zero_le, true_and, and_true, if_true, if_false, ne_eq, Int.reduceEq, Int.reduceNeg, not_false_eq_true, not_true_eq_false, ↓reduceIte, Int.reduceLT, Int.reduceLE, and_self, or_true, true_or, or_false, false_or, false_and, and_false, ah_t_w, ah_m_w, ah_n_w, lst1_0, List.tail_cons, w32_i, zbd, lst2_0, mt_1036a hM, mt_1075a hM, mt_1075b hM, mf_48 hM, hlt, er]
    refine ih (k + 1) _ _ (by omega) (by omega) ?_ (Off_w hO (by omega))
    have := ST_w (r := 1075) (i := 20 + k) (v := zcp S 1075 20 k 1075 k) hS (by decide)
    rw [zcp_s k0 (by omega)] at this
    exact this
theorem l_276_119 (hQ : ∀ h' tl, ST (zcp S 1076 16 16) h' → Off (fun r _ => 1072 ≤ r ∧ r ≤ 1082) h h' → wpB d 276 146 (some (.inr (.inr 1036)) :: tl) [] h' Q) : ∀ (j : Nat) (k : Int) tl h', 0 ≤ k → k + j = 16 → ST (zcp S 1076 16 k) h' → Off (fun r _ => 1072 ≤ r ∧ r ≤ 1082) h h' → wpB d 276 119 (some (.inr (.inr 1036)) :: some (.inl k) :: tl) [] h' Q := by
  intro j
  induction j with
  | zero =>
    intro k tl h' k0 k1 hS hO
    have hlt : ¬ k < 16 := by omega
    have ek : k = 16 := by omega
    simp (disch := omega) only [q_276_119, b_276_119, ↓w_bipush, ↓w_aload_n_0, ↓w_iload_n_1, ↓w_iinc_1, ↓w_iadd, ↓w_getfield, ↓w_iaload, ↓w_iastore, ↓w_goto, ↓w_if_icmp_ge, stw_0, stw_i, stw_l, stw_r, ofK0, ofK1, ofK2, lst1, lst2, lkill, kont_none, kont_some, Int.reduceToNat, List.length_cons, List.length_nil, Nat.reduceAdd, Nat.reduceLeDiff, Nat.zero_le, true_and, and_true, if_true, if_false, ne_eq, Int.reduceEq, Int.reduceNeg, not_false_eq_true, not_true_eq_false, ↓reduceIte, Int.reduceLT, Int.reduceLE, and_self, or_true, true_or, or_false, false_or, false_and, and_false, ah_t_w, ah_m_w, ah_n_w, lst1_0, List.tail_cons, w32_i, zbd, lst2_0, hlt]
    exact hQ _ _ (ek ▸ hS) hO
  | succ j ih =>
    intro k tl h' k0 k1 hS hO
    have hlt : k < 16 := by omega
    have hM := hS.1
    have er := ST_r hS (r := 1076) (by decide)
    rw [q_276_119]
    simp (disch := omega) only [b_276_119, ↓w_bipush, ↓w_aload_n_0, ↓w_iload_n_1, ↓w_iinc_1, ↓w_iadd, ↓w_getfield, ↓w_iaload, ↓w_iastore, ↓w_goto, ↓w_if_icmp_ge, stw_0, stw_i, stw_l, stw_r, ofK0, ofK1, ofK2, lst1, lst2, lkill, kont_none, kont_some, Int.reduceToNat, List.length_cons, List.length_nil, Nat.reduceAdd, Nat.reduceLeDiff, Nat.zero_le, true_and, and_true, if_true, if_false, ne_eq, Int.reduceEq, Int.reduceNeg, not_false_eq_true, not_true_eq_false, ↓reduceIte, Int.reduceLT, Int.reduceLE, and_self, or_true, true_or, or_false, false_or, false_and, and_false, ah_t_w, ah_m_w, ah_n_w, lst1_0, List.tail_cons, w32_i, zbd, lst2_0, mt_1036a hM, mt_1076a hM, mt_1076b hM, mf_49 hM, hlt, er]
    refine ih (k + 1) _ _ (by omega) (by omega) ?_ (Off_w hO (by omega))
    have := ST_w (r := 1076) (i := 16 + k) (v := zcp S 1076 16 k 1076 k) hS (by decide)
    rw [zcp_s k0 (by omega)] at this
    exact this
theorem l_276_148 (hQ : ∀ h' tl, ST (zcp S 1078 18 18) h' → Off (fun r _ => 1072 ≤ r ∧ r ≤ 1082) h h' → wpB d 276 175 (some (.inr (.inr 1036)) :: tl) [] h' Q) : ∀ (j : Nat) (k : Int) tl h', 0 ≤ k → k + j = 18 → ST (zcp S 1078 18 k) h' → Off (fun r _ => 1072 ≤ r ∧ r ≤ 1082) h h' → wpB d 276 148 (some (.inr (.inr 1036)) :: some (.inl k) :: tl) [] h' Q := by
  intro j
  induction j with
  | zero =>
    intro k tl h' k0 k1 hS hO
    have hlt : ¬ k < 18 := by omega
    have ek : k = 18 := by omega
    simp (disch := omega) only [q_276_148, b_276_148, ↓w_bipush, ↓w_aload_n_0, ↓w_iload_n_1, ↓w_iinc_1, ↓w_iadd, ↓w_getfield, ↓w_iaload, ↓w_iastore, ↓w_goto, ↓w_if_icmp_ge, stw_0, stw_i, stw_l, stw_r, ofK0, ofK1, ofK2, lst1, lst2, lkill, kont_none, kont_some, Int.reduceToNat, List.length_cons, List.length_nil, Nat.reduceAdd, Nat.reduceLeDiff, Nat.zero_le, true_and, and_true, if_true, if_false, ne_eq, Int.reduceEq, Int.reduceNeg, not_false_eq_true, not_true_eq_false, ↓reduceIte, Int.reduceLT, Int.reduceLE, and_self, or_true, true_or, or_false, false_or, false_and, and_false, ah_t_w, ah_m_w, ah_n_w, lst1_0, List.tail_cons, w32_i, zbd, lst2_0, hlt]
    exact hQ _ _ (ek ▸ hS) hO
  | succ j ih =>
    intro k tl h' k0 k1 hS hO
    have hlt : k < 18 := by omega
    have hM := hS.1
    have er := ST_r hS (r := 1078) (by decide)
    rw [q_276_148]
    simp (disch := omega) only [b_276_148, ↓w_bipush, ↓w_aload_n_0, ↓w_iload_n_1, ↓w_iinc_1, ↓w_iadd, ↓w_getfield, ↓w_iaload, ↓w_iastore, ↓w_goto, ↓w_if_icmp_ge, stw_0, stw_i, stw_l, stw_r, ofK0, ofK1, ofK2, lst1, lst2, lkill, kont_none, kont_some, Int.reduceToNat, List.length_cons, List.length_nil, Nat.reduceAdd, Nat.reduceLeDiff, Nat.zero_le, true_and, and_true, if_true, if_false, ne_eq, Int.reduceEq, Int.reduceNeg, not_false_eq_true, not_true_eq_false, ↓reduceIte, Int.reduceLT, Int.reduceLE, and_self, or_true, true_or, or_false, false_or, false_and, and_false, ah_t_w, ah_m_w, ah_n_w, lst1_0, List.tail_cons, w32_i, zbd, lst2_0, mt_1036a hM, mt_1078a hM, mt_1078b hM, mf_51 hM, hlt, er]
    refine ih (k + 1) _ _ (by omega) (by omega) ?_ (Off_w hO (by omega))
    have := ST_w (r := 1078) (i := 18 + k) (v := zcp S 1078 18 k 1078 k) hS (by decide)
    rw [zcp_s k0 (by omega)] at this
    exact this
theorem l_276_177 (hQ : ∀ h' tl, ST (zcp S 1079 2 2) h' → Off (fun r _ => 1072 ≤ r ∧ r ≤ 1082) h h' → wpB d 276 202 (some (.inr (.inr 1036)) :: tl) [] h' Q) : ∀ (j : Nat) (k : Int) tl h', 0 ≤ k → k + j = 2 → ST (zcp S 1079 2 k) h' → Off (fun r _ => 1072 ≤ r ∧ r ≤ 1082) h h' → wpB d 276 177 (some (.inr (.inr 1036)) :: some (.inl k) :: tl) [] h' Q := by
  intro j
  induction j with
  | zero =>
    intro k tl h' k0 k1 hS hO
    have hlt : ¬ k < 2 := by omega
    have ek : k = 2 := by omega
    simp (disch := omega) only [q_276_177, b_276_177, ↓w_iconst, ↓w_aload_n_0, ↓w_iload_n_1, ↓w_iinc_1, ↓w_iadd, ↓w_getfield, ↓w_iaload, ↓w_iastore, ↓w_goto, ↓w_if_icmp_ge, stw_0, stw_i, stw_l, stw_r, ofK0, ofK1, ofK2, lst1, lst2, lkill, kont_none, kont_some, Int.reduceToNat, List.length_cons, List.length_nil, Nat.reduceAdd, Nat.reduceLeDiff, Nat.zero_le, true_and, and_true, if_true, if_false, ne_eq, Int.reduceEq, Int.reduceNeg, not_false_eq_true, not_true_eq_false, ↓reduceIte, Int.reduceLT, Int.reduceLE, and_self, or_true, true_or, or_false, false_or, false_and, and_false, ah_t_w, ah_m_w, ah_n_w, lst1_0, List.tail_cons, w32_i, zbd, lst2_0, hlt]
    exact hQ _ _ (ek ▸ hS) hO
  | succ j ih =>
    intro k tl h' k0 k1 hS hO
    have hlt : k < 2 := by omega
    have hM := hS.1
    have er := ST_r hS (r := 1079) (by decide)
    rw [q_276_177]
    simp (disch := omega) only [b_276_177, ↓w_iconst, ↓w_aload_n_0, ↓w_iload_n_1, ↓w_iinc_1, ↓w_iadd, ↓w_getfield, ↓w_iaload, ↓w_iastore, ↓w_goto, ↓w_if_icmp_ge, stw_0, stw_i, stw_l, stw_r, ofK0, ofK1, ofK2, lst1, lst2, lkill, kont_none, kont_some, Int.reduceToNat, List.length_cons, List.length_nil, Nat.reduceAdd, Nat.reduceLeDiff, Nat.zero_le, true_and, and_true, if_true, if_false, ne_eq, Int.reduceEq, Int.reduceNeg, not_false_eq_true, not_true_eq_false, ↓reduceIte, Int.reduceLT, Int.reduceLE, and_self, or_true, true_or, or_false, false_or, false_and, and_false, ah_t_w, ah_m_w, ah_n_w, lst1_0, List.tail_cons, w32_i, zbd, lst2_0, mt_1036a hM, mt_1079a hM, mt_1079b hM, mf_52 hM, hlt, er]
    refine ih (k + 1) _ _ (by omega) (by omega) ?_ (Off_w hO (by omega))
    have := ST_w (r := 1079) (i := 2 + k) (v := zcp S 1079 2 k 1079 k) hS (by decide)
    rw [zcp_s k0 (by omega)] at this
    exact this
theorem l_276_228 {cd : Int} (hcd : 0 ≤ cd ∧ cd ≤ 1600) (e56 : ah_m h 1036 56 = cd) (hQ : ∀ h' tl, ST (zcp S 1082 1600 cd) h' → Off (fun r _ => 1072 ≤ r ∧ r ≤ 1082) h h' → wpB d 276 258 (some (.inr (.inr 1036)) :: tl) [] h' Q) : ∀ (j : Nat) (k : Int) tl h', 0 ≤ k → k + j = cd → ST (zcp S 1082 1600 k) h' → Off (fun r _ => 1072 ≤ r ∧ r ≤ 1082) h h' → wpB d 276 228 (some (.inr (.inr 1036)) :: some (.inl k) :: tl) [] h' Q := by
  intro j
  induction j with
  | zero =>
    intro k tl h' k0 k1 hS hO
    have f56 : ah_m h' 1036 56 = cd := by rw [hO.2 _ _ (by omega)]; exact e56
    have hM := hS.1
    have hlt : ¬ k < cd := by omega
    have ek : k = cd := by omega
    simp (disch := omega) only [q_276_228, b_276_228, ↓w_sipush, ↓w_aload_n_0, ↓w_iload_n_1, ↓w_iinc_1, ↓w_iadd, ↓w_getfield, ↓w_iaload, ↓w_iastore, ↓w_goto, ↓w_if_icmp_ge, stw_0, stw_i, stw_l, stw_r, ofK0, ofK1, ofK2, lst1, lst2, lkill, kont_none, kont_some, Int.reduceToNat, List.length_cons, List.length_nil, Nat.reduceAdd, Nat.reduceLeDiff, Nat.zero_le, true_and, and_true, if_true, if_false, ne_eq, Int.reduceEq, Int.reduceNeg, not_false_eq_true, not_true_eq_false, ↓reduceIte, Int.reduceLT, Int.reduceLE, and_self, or_true, true_or, or_false, false_or, false_and, and_false, ah_t_w, ah_m_w, ah_n_w, lst1_0, List.tail_cons, w32_i, zbd, lst2_0, mt_1036a hM, mt_1082a hM, mt_1082b hM, mf_55 hM, f56, hlt]
    exact hQ _ _ (ek ▸ hS) hO
  | succ j ih =>
    intro k tl h' k0 k1 hS hO
    have f56 : ah_m h' 1036 56 = cd := by rw [hO.2 _ _ (by omega)]; exact e56
    have hlt : k < cd := by omega
    have hM := hS.1
    have er := ST_r hS (r := 1082) (by decide)
    rw [q_276_228]
    simp (disch := omega) only [b_276_228, ↓w_sipush, ↓w_aload_n_0, ↓w_iload_n_1, ↓w_iinc_1, ↓w_iadd, ↓w_getfield, ↓w_iaload, ↓w_iastore, ↓w_goto, ↓w_if_icmp_ge, stw_0, stw_i, stw_l, stw_r, ofK0, ofK1, ofK2, lst1, lst2, lkill, kont_none, kont_some, Int.reduceToNat, List.length_cons, List.length_nil, Nat.reduceAdd, Nat.reduceLeDiff, Nat.zero_le, true_and, and_true, if_true, if_false, ne_eq, Int.reduceEq, Int.reduceNeg, not_false_eq_true, not_true_eq_false, ↓reduceIte, Int.reduceLT, Int.reduceLE, and_self, or_true, true_or, or_false, false_or, false_and, and_false, ah_t_w, ah_m_w, ah_n_w, lst1_0, List.tail_cons, w32_i, zbd, lst2_0, mt_1036a hM, mt_1082a hM, mt_1082b hM, mf_55 hM, f56, hlt, er]
    refine ih (k + 1) _ _ (by omega) (by omega) ?_ (Off_w hO (by omega))
    have := ST_w (r := 1082) (i := 1600 + k) (v := zcp S 1082 1600 k 1082 k) hS (by decide)
    rw [zcp_s k0 (by omega)] at this
    exact this
theorem l_276_260 (hM : MI h) (hQ : ∀ h' tl, (∀ i, ah_m h' 1083 i = if 0 ≤ i ∧ i < 225 then 0 else ah_m h 1083 i) → Off W83 h h' → wpB d 276 280 (some (.inr (.inr 1036)) :: tl) [] h' Q) : ∀ (j : Nat) (k : Int) tl h', 0 ≤ k → k + j = 225 → (∀ i, ah_m h' 1083 i = if 0 ≤ i ∧ i < k then 0 else ah_m h 1083 i) → Off W83 h h' → wpB d 276 260 (some (.inr (.inr 1036)) :: some (.inl k) :: tl) [] h' Q := by
  intro j
  induction j with
  | zero =>
    intro k tl h' k0 k1 hi hO
    have hlt : ¬ k < 225 := by omega
    have ek : k = 225 := by omega
    simp (disch := omega) only [q_276_260, b_276_260, ↓w_iconst, ↓w_sipush, ↓w_aload_n_0, ↓w_iload_n_1, ↓w_iinc_1, ↓w_getfield, ↓w_iastore, ↓w_goto, ↓w_if_icmp_ge, stw_0, stw_i, stw_l, stw_r, ofK0, ofK1, ofK2, lst1, lst2, lkill, kont_none, kont_some, Int.reduceToNat, List.length_cons, List.length_nil, Nat.reduceAdd, Nat.reduceLeDiff, Nat.zero_le, true_and, and_true, if_true, if_false, ne_eq, Int.reduceEq, Int.reduceNeg, not_false_eq_true, not_true_eq_false, ↓reduceIte, Int.reduceLT, Int.reduceLE, and_self, or_true, true_or, or_false, false_or, false_and, and_false, ah_t_w, ah_m_w, ah_n_w, lst1_0, List.tail_cons, w32_i, zbd, lst2_0, hlt]
    exact hQ _ _ (ek ▸ hi) hO
  | succ j ih =>
    intro k tl h' k0 k1 hi hO
    have hlt : k < 225 := by omega
    have hM' : MI h' := MI_off hM hO (fun r i w => W83_f w)
    rw [q_276_260]
    simp (disch := omega) only [b_276_260, ↓w_iconst, ↓w_sipush, ↓w_aload_n_0, ↓w_iload_n_1, ↓w_iinc_1, ↓w_getfield, ↓w_iastore, ↓w_goto, ↓w_if_icmp_ge, stw_0, stw_i, stw_l, stw_r, ofK0, ofK1, ofK2, lst1, lst2, lkill, kont_none, kont_some, Int.reduceToNat, List.length_cons, List.length_nil, Nat.reduceAdd, Nat.reduceLeDiff, Nat.zero_le, true_and, and_true, if_true, if_false, ne_eq, Int.reduceEq, Int.reduceNeg, not_false_eq_true, not_true_eq_false, ↓reduceIte, Int.reduceLT, Int.reduceLE, and_self, or_true, true_or, or_false, false_or, false_and, and_false, ah_t_w, ah_m_w, ah_n_w, lst1_0, List.tail_cons, w32_i, zbd, lst2_0, mt_1036a hM', mt_1083a hM', mt_1083b hM', mf_62 hM', hlt]
    refine ⟨k0, ih (k + 1) _ _ (by omega) (by omega) (fun i => ?_) (Off_w hO rfl)⟩
    rw [ah_m_w, hi i]
    by_cases e : i = k
    · rw [if_pos ⟨rfl, e⟩, if_pos (by omega)]
    · rw [if_neg (fun q => e q.2)]
      by_cases e2 : 0 ≤ i ∧ i < k
      · rw [if_pos e2, if_pos (by omega)]
      · rw [if_neg e2, if_neg (by omega)]
theorem l_276_282 {c1 : Int} (hM : MI h) (hc : 0 ≤ c1 ∧ c1 ≤ 8) (e72 : ah_m h 1072 1 = c1) (hQ : ∀ h' tl, (∀ i, ah_m h' 1083 i = if 2 ≤ i ∧ i < 2 + 2 * c1 then ah_m h 1077 (i - 2) else ah_m h 1083 i) → Off W83 h h' → wpB d 276 314 (some (.inr (.inr 1036)) :: tl) [] h' Q) : ∀ (j : Nat) (k : Int) tl h', 0 ≤ k → k + j = 2 * c1 → (∀ i, ah_m h' 1083 i = if 2 ≤ i ∧ i < 2 + k then ah_m h 1077 (i - 2) else ah_m h 1083 i) → Off W83 h h' → wpB d 276 282 (some (.inr (.inr 1036)) :: some (.inl k) :: tl) [] h' Q := by
  intro j
  induction j with
  | zero =>
    intro k tl h' k0 k1 hi hO
    have hM' : MI h' := MI_off hM hO (fun r i w => W83_f w)
    have f72 : ah_m h' 1072 1 = c1 := by rw [hO.2 _ _ (by unfold W83; omega)]; exact e72
    have hlt : ¬ k < 2 * c1 := by omega
    have ek : k = 2 * c1 := by omega
    simp (disch := omega) only [q_276_282, b_276_282, ↓w_iconst, ↓w_aload_n_0, ↓w_iload_n_1, ↓w_iinc_1, ↓w_iadd, ↓w_imul, ↓w_getfield, ↓w_iaload, ↓w_iastore, ↓w_goto, ↓w_if_icmp_ge, stw_0, stw_i, stw_l, stw_r, ofK0, ofK1, ofK2, lst1, lst2, lkill, kont_none, kont_some, Int.reduceToNat, List.length_cons, List.length_nil, Nat.reduceAdd, Nat.reduceLeDiff, Nat.zero_le, true_and, and_true, if_true, if_false, ne_eq, Int.reduceEq, Int.reduceNeg, not_false_eq_true, not_true_eq_false, ↓reduceIte, Int.reduceLT, Int.reduceLE, and_self, or_true, true_or, or_false, false_or, false_and, and_false, ah_t_w, ah_m_w, ah_n_w, lst1_0, List.tail_cons, w32_i, zbd, lst2_0, mt_1036a hM', mt_1072a hM', mt_1072b hM', mf_45 hM', mt_1077a hM', mt_1077b hM', mf_50 hM', mt_1083a hM', mt_1083b hM', mf_62 hM', f72, hlt]
    exact hQ _ _ (ek ▸ hi) hO
  | succ j ih =>
    intro k tl h' k0 k1 hi hO
    have hlt : k < 2 * c1 := by omega
    have hM' : MI h' := MI_off hM hO (fun r i w => W83_f w)
    have f72 : ah_m h' 1072 1 = c1 := by rw [hO.2 _ _ (by unfold W83; omega)]; exact e72
    have f77 : ah_m h' 1077 k = ah_m h 1077 k := hO.2 _ _ (by unfold W83; omega)
    rw [q_276_282]
    simp (disch := omega) only [b_276_282, ↓w_iconst, ↓w_aload_n_0, ↓w_iload_n_1, ↓w_iinc_1, ↓w_iadd, ↓w_imul, ↓w_getfield, ↓w_iaload, ↓w_iastore, ↓w_goto, ↓w_if_icmp_ge, stw_0, stw_i, stw_l, stw_r, ofK0, ofK1, ofK2, lst1, lst2, lkill, kont_none, kont_some, Int.reduceToNat, List.length_cons, List.length_nil, Nat.reduceAdd, Nat.reduceLeDiff, Nat.zero_le, true_and, and_true, if_true, if_false, ne_eq, Int.reduceEq, Int.reduceNeg, not_false_eq_true, not_true_eq_false, ↓reduceIte, Int.reduceLT, Int.reduceLE, and_self, or_true, true_or, or_false, false_or, false_and, and_false, ah_t_w, ah_m_w, ah_n_w, lst1_0, List.tail_cons, w32_i, zbd, lst2_0, mt_1036a hM', mt_1072a hM', mt_1072b hM', mf_45 hM', mt_1077a hM', mt_1077b hM', mf_50 hM', mt_1083a hM', mt_1083b hM', mf_62 hM', f72, hlt, f77]
    refine ih (k + 1) _ _ (by omega) (by omega) (fun i => ?_) (Off_w hO rfl)
    rw [ah_m_w, hi i]
    by_cases e : i = 2 + k
    · rw [if_pos ⟨rfl, e⟩, if_pos (by omega), e]; congr 1; omega
    · rw [if_neg (fun q => e q.2)]
      by_cases e2 : 2 ≤ i ∧ i < 2 + k
      · rw [if_pos e2, if_pos (by omega)]
      · rw [if_neg e2, if_neg (by omega)]
theorem l_276_316 {c1 : Int} (hM : MI h) (hc : 0 ≤ c1 ∧ c1 ≤ 6) (e72 : ah_m h 1072 2 = c1) (hQ : ∀ h' tl, (∀ i, ah_m h' 1083 i = if 18 ≤ i ∧ i < 18 + c1 then ah_m h 1078 (3 * (i - 18) + 2) else ah_m h 1083 i) → Off W83 h h' → wpB d 276 351 (some (.inr (.inr 1036)) :: tl) [] h' Q) : ∀ (j : Nat) (k : Int) tl h', 0 ≤ k → k + j = c1 → (∀ i, ah_m h' 1083 i = if 18 ≤ i ∧ i < 18 + k then ah_m h 1078 (3 * (i - 18) + 2) else ah_m h 1083 i) → Off W83 h h' → wpB d 276 316 (some (.inr (.inr 1036)) :: some (.inl k) :: tl) [] h' Q := by
  intro j
  induction j with
  | zero =>
    intro k tl h' k0 k1 hi hO
    have hM' : MI h' := MI_off hM hO (fun r i w => W83_f w)
    have f72 : ah_m h' 1072 2 = c1 := by rw [hO.2 _ _ (by unfold W83; omega)]; exact e72
    have hlt : ¬ k < c1 := by omega
    have ek : k = c1 := by omega
    simp (disch := omega) only [q_276_316, b_276_316, ↓w_iconst, ↓w_bipush, ↓w_aload_n_0, ↓w_iload_n_1, ↓w_iinc_1, ↓w_iadd, ↓w_imul, ↓w_getfield, ↓w_iaload, ↓w_iastore, ↓w_goto, ↓w_if_icmp_ge, stw_0, stw_i, stw_l, stw_r, ofK0, ofK1, ofK2, lst1, lst2, lkill, kont_none, kont_some, Int.reduceToNat, List.length_cons, List.length_nil, Nat.reduceAdd, Nat.reduceLeDiff, Nat.zero_le, true_and, and_true, if_true, if_false, ne_eq, Int.reduceEq, Int.reduceNeg, not_false_eq_true, not_true_eq_false, ↓reduceIte, Int.reduceLT, Int.reduceLE, and_self, or_true, true_or, or_false, false_or, false_and, and_false, ah_t_w, ah_m_w, ah_n_w, lst1_0, List.tail_cons, w32_i, zbd, lst2_0, mt_1036a hM', mt_1072a hM', mt_1072b hM', mf_45 hM', mt_1078a hM', mt_1078b hM', mf_51 hM', mt_1083a hM', mt_1083b hM', mf_62 hM', f72, hlt]
    exact hQ _ _ (ek ▸ hi) hO
  | succ j ih =>
    intro k tl h' k0 k1 hi hO
    have hlt : k < c1 := by omega
    have hM' : MI h' := MI_off hM hO (fun r i w => W83_f w)
    have f72 : ah_m h' 1072 2 = c1 := by rw [hO.2 _ _ (by unfold W83; omega)]; exact e72
    have f78 : ah_m h' 1078 (3 * k + 2) = ah_m h 1078 (3 * k + 2) := hO.2 _ _ (by unfold W83; omega)
    rw [q_276_316]
    simp (disch := omega) only [b_276_316, ↓w_iconst, ↓w_bipush, ↓w_aload_n_0, ↓w_iload_n_1, ↓w_iinc_1, ↓w_iadd, ↓w_imul, ↓w_getfield, ↓w_iaload, ↓w_iastore, ↓w_goto, ↓w_if_icmp_ge, stw_0, stw_i, stw_l, stw_r, ofK0, ofK1, ofK2, lst1, lst2, lkill, kont_none, kont_some, Int.reduceToNat, List.length_cons, List.length_nil, Nat.reduceAdd, Nat.reduceLeDiff, Nat.zero_le, true_and, and_true, if_true, if_false, ne_eq, Int.reduceEq, Int.reduceNeg, not_false_eq_true, not_true_eq_false, ↓reduceIte, Int.reduceLT, Int.reduceLE, and_self, or_true, true_or, or_false, false_or, false_and, and_false, ah_t_w, ah_m_w, ah_n_w, lst1_0, List.tail_cons, w32_i, zbd, lst2_0, mt_1036a hM', mt_1072a hM', mt_1072b hM', mf_45 hM', mt_1078a hM', mt_1078b hM', mf_51 hM', mt_1083a hM', mt_1083b hM', mf_62 hM', f72, hlt, f78]
    refine ih (k + 1) _ _ (by omega) (by omega) (fun i => ?_) (Off_w hO rfl)
    rw [ah_m_w, hi i]
    by_cases e : i = 18 + k
    · rw [if_pos ⟨rfl, e⟩, if_pos (by omega), e, show 18 + k - 18 = k by omega]
    · rw [if_neg (fun q => e q.2)]
      by_cases e2 : 18 ≤ i ∧ i < 18 + k
      · rw [if_pos e2, if_pos (by omega)]
      · rw [if_neg e2, if_neg (by omega)]
def WSt (r i : Int) : Prop := (1072 ≤ r ∧ r ≤ 1083) ∨ (r = 1036 ∧ (i = 58 ∨ i = 84 ∨ i = 80))
theorem c_276 (hS : ST S h) (hC : SC S) (e56 : ah_m h 1036 56 = zcdd S) (hcd : 0 ≤ zcdd S ∧ zcdd S ≤ 1600) (hQ : ∀ h', ST (zstd S) h' → ah_m h' 1083 = znw0 S (ah_m h 1083) → ah_m h' 1036 58 = 1 → ah_m h' 1036 84 = 0 → ah_m h' 1036 80 = 0 → Off WSt h h' → Q (.inl none) h') : wpC (d + 1) 276 [.inr (.inr 1036)] h Q := by
  have hM := hS.1
  have hc1 := hC.2.1; have hc2 := hC.2.2
  rw [wpC_B]; refine ⟨⟨Nat.zero_lt_succ _, Nat.le_of_ble_eq_true rfl⟩, ?_⟩; simp only [lent]
  simp (disch := omega) only [q_276_0, b_276_0, ↓w_iconst, ↓w_aload_n_0, ↓w_istore_n_1, ↓w_putfield_3, ↓w_nop, stw_0, stw_i, stw_l, stw_r, ofK0, ofK1, ofK2, lst1, lst2, lkill, kont_none, kont_some, Int.reduceToNat, List.length_cons, List.length_nil, Nat.reduceAdd, Nat.reduceLeDiff, Nat.zero_le, true_and, and_true, if_true, if_false, ne_eq, Int.reduceEq, Int.reduceNeg, not_false_eq_true, not_true_eq_false, ↓reduceIte, Int.reduceLT, Int.reduceLE, and_self, or_true, true_or, or_false, false_or, false_and, and_false, ah_t_w, ah_m_w, ah_n_w, lst1_0, List.tail_cons, w32_i, zbd, lst2_0, mt_1036a hM]
  have hS0 : ST S (ah_w h 1036 58 1) := ⟨MI_w hM (by unfold fre; omega), by rw [stt_o (by omega)]; exact hS.2⟩
  have hO0 : Off WSt h (ah_w h 1036 58 1) := Off_w Off_rfl (by unfold WSt; omega)
  have f58 : ah_m (ah_w h 1036 58 1) 1036 58 = 1 := rfl
  have f56 : ah_m (ah_w h 1036 58 1) 1036 56 = zcdd S := by rw [ah_m_w, if_neg (by omega)]; exact e56
  have k83_1 : ∀ i, ah_m (ah_w h 1036 58 1) 1083 i = ah_m h 1083 i := fun i => by rw [ah_m_w, if_neg (by omega)]
  generalize ah_w h 1036 58 1 = h1 at hS0 hO0 f58 f56 k83_1
  have st : ∀ {h' h'' : AH}, Off WSt h h' → Off (fun r _ => 1072 ≤ r ∧ r ≤ 1082) h' h'' → Off WSt h h'' := fun a b => Off_tr a (Off_mono (fun r i w => Or.inl ⟨w.1, by omega⟩) b)
  have sl : ∀ {h' h'' : AH} {i z : Int}, Off (fun r _ => 1072 ≤ r ∧ r ≤ 1082) h' h'' → ah_m h' 1036 i = z → ah_m h'' 1036 i = z := fun a b => by rw [a.2 _ _ (by omega)]; exact b
  refine l_276_7 (S := S) (fun h2 tl hS2 hO => ?_) 3 0 _ h1 (by omega) (by omega) (by rw [zcp_0]; exact hS0) Off_rfl
  have hO2 := st hO0 hO
  have g58_2 := sl hO f58
  have g56_2 := sl hO f56
  have k83_2 : ∀ i, ah_m h2 1083 i = ah_m h 1083 i := fun i => by rw [hO.2 _ _ (by omega)]; exact k83_1 i
  clear hO
  simp (disch := omega) only [q_276_32, b_276_32, ↓w_iconst, ↓w_istore_n_1, ↓w_nop, stw_0, stw_i, stw_l, stw_r, ofK0, ofK1, ofK2, lst1, lst2, lkill, kont_none, kont_some, Int.reduceToNat, List.length_cons, List.length_nil, Nat.reduceAdd, Nat.reduceLeDiff, Nat.zero_le, true_and, and_true, if_true, if_false, ne_eq, Int.reduceEq, Int.reduceNeg, not_false_eq_true, not_true_eq_false, ↓reduceIte, Int.reduceLT, Int.reduceLE, and_self, or_true, true_or, or_false, false_or, false_and, and_false, ah_t_w, ah_m_w, ah_n_w, lst1_0, List.tail_cons, w32_i, zbd, lst2_0]
  refine l_276_34 (S := (zcp S 1072 3 3)) (fun h3 tl hS3 hO => ?_) 24 0 _ h2 (by omega) (by omega) (by rw [zcp_0]; exact hS2) Off_rfl
  have hO3 := st hO2 hO
  have g58_3 := sl hO g58_2
  have g56_3 := sl hO g56_2
  have k83_3 : ∀ i, ah_m h3 1083 i = ah_m h 1083 i := fun i => by rw [hO.2 _ _ (by omega)]; exact k83_2 i
  clear hO
  simp (disch := omega) only [q_276_61, b_276_61, ↓w_iconst, ↓w_istore_n_1, ↓w_nop, stw_0, stw_i, stw_l, stw_r, ofK0, ofK1, ofK2, lst1, lst2, lkill, kont_none, kont_some, Int.reduceToNat, List.length_cons, List.length_nil, Nat.reduceAdd, Nat.reduceLeDiff, Nat.zero_le, true_and, and_true, if_true, if_false, ne_eq, Int.reduceEq, Int.reduceNeg, not_false_eq_true, not_true_eq_false, ↓reduceIte, Int.reduceLT, Int.reduceLE, and_self, or_true, true_or, or_false, false_or, false_and, and_false, ah_t_w, ah_m_w, ah_n_w, lst1_0, List.tail_cons, w32_i, zbd, lst2_0]
  refine l_276_63 (S := (zcp (zcp S 1072 3 3) 1073 24 24)) (fun h4 tl hS4 hO => ?_) 4 0 _ h3 (by omega) (by omega) (by rw [zcp_0]; exact hS3) Off_rfl
  have hO4 := st hO3 hO
  have g58_4 := sl hO g58_3
  have g56_4 := sl hO g56_3
  have k83_4 : ∀ i, ah_m h4 1083 i = ah_m h 1083 i := fun i => by rw [hO.2 _ _ (by omega)]; exact k83_3 i
  clear hO
  simp (disch := omega) only [q_276_88, b_276_88, ↓w_iconst, ↓w_istore_n_1, ↓w_nop, stw_0, stw_i, stw_l, stw_r, ofK0, ofK1, ofK2, lst1, lst2, lkill, kont_none, kont_some, Int.reduceToNat, List.length_cons, List.length_nil, Nat.reduceAdd, Nat.reduceLeDiff, Nat.zero_le, true_and, and_true, if_true, if_false, ne_eq, Int.reduceEq, Int.reduceNeg, not_false_eq_true, not_true_eq_false, ↓reduceIte, Int.reduceLT, Int.reduceLE, and_self, or_true, true_or, or_false, false_or, false_and, and_false, ah_t_w, ah_m_w, ah_n_w, lst1_0, List.tail_cons, w32_i, zbd, lst2_0]
  refine l_276_90 (S := (zcp (zcp (zcp S 1072 3 3) 1073 24 24) 1074 4 4)) (fun h5 tl hS5 hO => ?_) 20 0 _ h4 (by omega) (by omega) (by rw [zcp_0]; exact hS4) Off_rfl
  have hO5 := st hO4 hO
  have g58_5 := sl hO g58_4
  have g56_5 := sl hO g56_4
  have k83_5 : ∀ i, ah_m h5 1083 i = ah_m h 1083 i := fun i => by rw [hO.2 _ _ (by omega)]; exact k83_4 i
  clear hO
  simp (disch := omega) only [q_276_117, b_276_117, ↓w_iconst, ↓w_istore_n_1, ↓w_nop, stw_0, stw_i, stw_l, stw_r, ofK0, ofK1, ofK2, lst1, lst2, lkill, kont_none, kont_some, Int.reduceToNat, List.length_cons, List.length_nil, Nat.reduceAdd, Nat.reduceLeDiff, Nat.zero_le, true_and, and_true, if_true, if_false, ne_eq, Int.reduceEq, Int.reduceNeg, not_false_eq_true, not_true_eq_false, ↓reduceIte, Int.reduceLT, Int.reduceLE, and_self, or_true, true_or, or_false, false_or, false_and, and_false, ah_t_w, ah_m_w, ah_n_w, lst1_0, List.tail_cons, w32_i, zbd, lst2_0]
  refine l_276_119 (S := (zcp (zcp (zcp (zcp S 1072 3 3) 1073 24 24) 1074 4 4) 1075 20 20)) (fun h6 tl hS6 hO => ?_) 16 0 _ h5 (by omega) (by omega) (by rw [zcp_0]; exact hS5) Off_rfl
  have hO6 := st hO5 hO
  have g58_6 := sl hO g58_5
  have g56_6 := sl hO g56_5
  have k83_6 : ∀ i, ah_m h6 1083 i = ah_m h 1083 i := fun i => by rw [hO.2 _ _ (by omega)]; exact k83_5 i
  clear hO
  simp (disch := omega) only [q_276_146, b_276_146, ↓w_iconst, ↓w_istore_n_1, ↓w_nop, stw_0, stw_i, stw_l, stw_r, ofK0, ofK1, ofK2, lst1, lst2, lkill, kont_none, kont_some, Int.reduceToNat, List.length_cons, List.length_nil, Nat.reduceAdd, Nat.reduceLeDiff, Nat.zero_le, true_and, and_true, if_true, if_false, ne_eq, Int.reduceEq, Int.reduceNeg, not_false_eq_true, not_true_eq_false, ↓reduceIte, Int.reduceLT, Int.reduceLE, and_self, or_true, true_or, or_false, false_or, false_and, and_false, ah_t_w, ah_m_w, ah_n_w, lst1_0, List.tail_cons, w32_i, zbd, lst2_0]
  refine l_276_148 (S := (zcp (zcp (zcp (zcp (zcp S 1072 3 3) 1073 24 24) 1074 4 4) 1075 20 20) 1076 16 16)) (fun h7 tl hS7 hO => ?_) 18 0 _ h6 (by omega) (by omega) (by rw [zcp_0]; exact hS6) Off_rfl
  have hO7 := st hO6 hO
  have g58_7 := sl hO g58_6
  have g56_7 := sl hO g56_6
  have k83_7 : ∀ i, ah_m h7 1083 i = ah_m h 1083 i := fun i => by rw [hO.2 _ _ (by omega)]; exact k83_6 i
  clear hO
  simp (disch := omega) only [q_276_175, b_276_175, ↓w_iconst, ↓w_istore_n_1, ↓w_nop, stw_0, stw_i, stw_l, stw_r, ofK0, ofK1, ofK2, lst1, lst2, lkill, kont_none, kont_some, Int.reduceToNat, List.length_cons, List.length_nil, Nat.reduceAdd, Nat.reduceLeDiff, Nat.zero_le, true_and, and_true, if_true, if_false, ne_eq, Int.reduceEq, Int.reduceNeg, not_false_eq_true, not_true_eq_false, ↓reduceIte, Int.reduceLT, Int.reduceLE, and_self, or_true, true_or, or_false, false_or, false_and, and_false, ah_t_w, ah_m_w, ah_n_w, lst1_0, List.tail_cons, w32_i, zbd, lst2_0]
  refine l_276_177 (S := (zcp (zcp (zcp (zcp (zcp (zcp S 1072 3 3) 1073 24 24) 1074 4 4) 1075 20 20) 1076 16 16) 1078 18 18)) (fun h8 tl hS8 hO => ?_) 2 0 _ h7 (by omega) (by omega) (by rw [zcp_0]; exact hS7) Off_rfl
  have hO8 := st hO7 hO
  have g58_8 := sl hO g58_7
  have g56_8 := sl hO g56_7
  have k83_8 : ∀ i, ah_m h8 1083 i = ah_m h 1083 i := fun i => by rw [hO.2 _ _ (by omega)]; exact k83_7 i
  clear hO
  have hM8 := hS8.1
  have r80 := ST_r hS8 (r := 1080) (by decide)
  have r81 := ST_r hS8 (r := 1081) (by decide)
  have e80 : zcp (zcp (zcp (zcp (zcp (zcp (zcp S 1072 3 3) 1073 24 24) 1074 4 4) 1075 20 20) 1076 16 16) 1078 18 18) 1079 2 2 1080 0 = S 1080 0 := rfl
  have e81 : zcp (zcp (zcp (zcp (zcp (zcp (zcp S 1072 3 3) 1073 24 24) 1074 4 4) 1075 20 20) 1076 16 16) 1078 18 18) 1079 2 2 1081 0 = S 1081 0 := rfl
  simp (disch := omega) only [q_276_202, b_276_202, ↓w_iconst, ↓w_aload_n_0, ↓w_istore_n_1, ↓w_getfield, ↓w_iaload, ↓w_iastore, ↓w_nop, stw_0, stw_i, stw_l, stw_r, ofK0, ofK1, ofK2, lst1, lst2, lkill, kont_none, kont_some, Int.reduceToNat, List.length_cons, List.length_nil, Nat.reduceAdd, Nat.reduceLeDiff, Nat.zero_le, true_and, and_true, if_true, if_false, ne_eq, Int.reduceEq, Int.reduceNeg, not_false_eq_true, not_true_eq_false, ↓reduceIte, Int.reduceLT, Int.reduceLE, and_self, or_true, true_or, or_false, false_or, false_and, and_false, ah_t_w, ah_m_w, ah_n_w, lst1_0, List.tail_cons, w32_i, zbd, lst2_0, mt_1036a hM8, mt_1080a hM8, mt_1080b hM8, mf_53 hM8, mt_1081a hM8, mt_1081b hM8, mf_54 hM8, r80, r81, e80, e81]
  have hS9 := ST_w (r := 1081) (i := 1) (v := S 1081 0) (ST_w (r := 1080) (i := 1) (v := S 1080 0) hS8 (by decide)) (by decide)
  have hO9 : Off WSt h (ah_w (ah_w h8 1080 1 (S 1080 0)) 1081 1 (S 1081 0)) := Off_w (Off_w hO8 (by unfold WSt; omega)) (by unfold WSt; omega)
  have g56 : ah_m (ah_w (ah_w h8 1080 1 (S 1080 0)) 1081 1 (S 1081 0)) 1036 56 = zcdd S := by rw [ah_m_w, if_neg (by omega), ah_m_w, if_neg (by omega)]; exact g56_8
  have g58 : ah_m (ah_w (ah_w h8 1080 1 (S 1080 0)) 1081 1 (S 1081 0)) 1036 58 = 1 := by rw [ah_m_w, if_neg (by omega), ah_m_w, if_neg (by omega)]; exact g58_8
  have k83_9 : ∀ i, ah_m (ah_w (ah_w h8 1080 1 (S 1080 0)) 1081 1 (S 1081 0)) 1083 i = ah_m h 1083 i := fun i => by rw [ah_m_w, if_neg (by omega), ah_m_w, if_neg (by omega)]; exact k83_8 i
  generalize ah_w (ah_w h8 1080 1 (S 1080 0)) 1081 1 (S 1081 0) = h9 at hS9 hO9 g56 g58 k83_9
  refine l_276_228 (cd := zcdd S) hcd g56 (fun h10 tl hS10 hO => ?_) (zcdd S).toNat 0 _ h9 (by omega) (by omega) (by rw [zcp_0]; exact hS9) Off_rfl
  have hS10 : ST (zstd S) h10 := hS10
  have hO10 := st hO9 hO
  have g58b := sl hO g58
  simp (disch := omega) only [q_276_258, b_276_258, ↓w_iconst, ↓w_istore_n_1, ↓w_nop, stw_0, stw_i, stw_l, stw_r, ofK0, ofK1, ofK2, lst1, lst2, lkill, kont_none, kont_some, Int.reduceToNat, List.length_cons, List.length_nil, Nat.reduceAdd, Nat.reduceLeDiff, Nat.zero_le, true_and, and_true, if_true, if_false, ne_eq, Int.reduceEq, Int.reduceNeg, not_false_eq_true, not_true_eq_false, ↓reduceIte, Int.reduceLT, Int.reduceLE, and_self, or_true, true_or, or_false, false_or, false_and, and_false, ah_t_w, ah_m_w, ah_n_w, lst1_0, List.tail_cons, w32_i, zbd, lst2_0]
  have e83 : ∀ i, ah_m h10 1083 i = ah_m h 1083 i := fun i => by
    rw [hO.2 _ _ (by omega)]; exact k83_9 i
  refine l_276_260 hS10.1 (fun h11 tl e11 hO11 => ?_) 225 0 _ h10 (by omega) (by omega) (fun i => by rw [if_neg (by omega)]) Off_rfl
  simp (disch := omega) only [q_276_280, b_276_280, ↓w_iconst, ↓w_istore_n_1, ↓w_nop, stw_0, stw_i, stw_l, stw_r, ofK0, ofK1, ofK2, lst1, lst2, lkill, kont_none, kont_some, Int.reduceToNat, List.length_cons, List.length_nil, Nat.reduceAdd, Nat.reduceLeDiff, Nat.zero_le, true_and, and_true, if_true, if_false, ne_eq, Int.reduceEq, Int.reduceNeg, not_false_eq_true, not_true_eq_false, ↓reduceIte, Int.reduceLT, Int.reduceLE, and_self, or_true, true_or, or_false, false_or, false_and, and_false, ah_t_w, ah_m_w, ah_n_w, lst1_0, List.tail_cons, w32_i, zbd, lst2_0]
  have hM11 := MI_off hS10.1 hO11 (fun r i w => W83_f w)
  have z72 : ∀ i, ah_m h10 1072 i = zstd S 1072 i := fun i => by rw [ST_r hS10 (by decide)]
  have z77 : ∀ i, ah_m h10 1077 i = zstd S 1077 i := fun i => by rw [ST_r hS10 (by decide)]
  have z78 : ∀ i, ah_m h10 1078 i = zstd S 1078 i := fun i => by rw [ST_r hS10 (by decide)]
  have y1 : zstd S 1072 1 = S 1072 1 := rfl
  have y2 : zstd S 1072 2 = S 1072 2 := rfl
  have y77 : ∀ i, zstd S 1077 i = S 1077 i := fun i => by
    unfold zstd zcp zw; simp only [Int.reduceEq, false_and, if_false]
  have y78 : ∀ i, 0 ≤ i → i < 18 → zstd S 1078 i = S 1078 i := fun i a b => by
    unfold zstd zcp zw; simp only [Int.reduceEq, false_and, if_false, true_and]; rw [if_neg (by omega)]
  refine l_276_282 hM11 hc1 (by rw [hO11.2 _ _ (by unfold W83; omega), z72, y1]) (fun h12 tl e12 hO12 => ?_) (2 * S 1072 1).toNat 0 _ h11 (by omega) (by omega) (fun i => by rw [if_neg (by omega)]) Off_rfl
  simp (disch := omega) only [q_276_314, b_276_314, ↓w_iconst, ↓w_istore_n_1, ↓w_nop, stw_0, stw_i, stw_l, stw_r, ofK0, ofK1, ofK2, lst1, lst2, lkill, kont_none, kont_some, Int.reduceToNat, List.length_cons, List.length_nil, Nat.reduceAdd, Nat.reduceLeDiff, Nat.zero_le, true_and, and_true, if_true, if_false, ne_eq, Int.reduceEq, Int.reduceNeg, not_false_eq_true, not_true_eq_false, ↓reduceIte, Int.reduceLT, Int.reduceLE, and_self, or_true, true_or, or_false, false_or, false_and, and_false, ah_t_w, ah_m_w, ah_n_w, lst1_0, List.tail_cons, w32_i, zbd, lst2_0]
  have hM12 := MI_off hM11 hO12 (fun r i w => W83_f w)
  refine l_276_316 hM12 hc2 (by rw [hO12.2 _ _ (by unfold W83; omega), hO11.2 _ _ (by unfold W83; omega), z72, y2]) (fun h13 tl e13 hO13 => ?_) (S 1072 2).toNat 0 _ h12 (by omega) (by omega) (fun i => by rw [if_neg (by omega)]) Off_rfl
  have hM13 := MI_off hM12 hO13 (fun r i w => W83_f w)
  have hOx : Off W83 h10 h13 := Off_tr hO11 (Off_tr hO12 hO13)
  simp (disch := omega) only [q_276_351, b_276_351, ↓w_iconst, ↓w_aload_n_0, ↓w_putfield_0, ↓w_return, stw_0, stw_i, stw_l, stw_r, ofK0, ofK1, ofK2, lst1, lst2, lkill, kont_none, kont_some, Int.reduceToNat, List.length_cons, List.length_nil, Nat.reduceAdd, Nat.reduceLeDiff, Nat.zero_le, true_and, and_true, if_true, if_false, ne_eq, Int.reduceEq, Int.reduceNeg, not_false_eq_true, not_true_eq_false, ↓reduceIte, Int.reduceLT, Int.reduceLE, and_self, or_true, true_or, or_false, false_or, false_and, and_false, ah_t_w, ah_m_w, ah_n_w, lst1_0, List.tail_cons, w32_i, zbd, lst2_0, mt_1036a hM13]
  refine hQ _ ⟨MI_w (MI_w hM13 (by unfold fre; omega)) (by unfold fre; omega), ?_⟩ ?_ ?_ ?_ ?_ ?_
  · rw [stt_o (by omega), stt_o (by omega), stt_off hOx (fun r i w g => by unfold W83 at w; omega)]; exact hS10.2
  · funext i
    rw [ah_m_w, if_neg (by omega), ah_m_w, if_neg (by omega), e13 i, e12 i, e11 i, e83 i]
    unfold znw0
    by_cases q1 : 18 ≤ i ∧ i < 18 + S 1072 2
    · rw [if_pos q1, if_pos q1, hO12.2 _ _ (by unfold W83; omega), hO11.2 _ _ (by unfold W83; omega), z78, y78 _ (by omega) (by omega)]
    · rw [if_neg q1, if_neg q1]
      by_cases q2 : 2 ≤ i ∧ i < 2 + 2 * S 1072 1
      · rw [if_pos q2, if_pos q2, hO11.2 _ _ (by unfold W83; omega), z77, y77]
      · rw [if_neg q2, if_neg q2]
  · rw [ah_m_w, if_neg (by omega), ah_m_w, if_neg (by omega), hOx.2 _ _ (by unfold W83; omega)]; exact g58b
  · rw [ah_m_w, if_neg (by omega), ah_m_w, if_pos ⟨rfl, rfl⟩]
  · rw [ah_m_w, if_pos ⟨rfl, rfl⟩]
  · exact Off_w (Off_w (Off_tr hO10 (Off_mono (fun r i w => by unfold W83 at w; unfold WSt; omega) hOx)) (by unfold WSt; omega)) (by unfold WSt; omega)
end BRD6
