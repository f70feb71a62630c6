/-! ===== M: brackets, parts that end ===== -/
def z60 : List Int → List Int × List Int
  | [] => ([], [])
  | v :: w => if 60 ≤ v then (v :: (z60 w).1, (z60 w).2) else ([], v :: w)
section Q4
variable {d : Nat} {h h0 : AH} {Q : QQ} {x y z m k s l a b c v n p r o : Int} {t : Int → Int} {hm : Bool} {w0 w cs : List Int}
set_option maxHeartbeats 4000000
theorem zct_nn : ∀ (w : List Int), 0 ≤ zoc w
  | [] => by simp [zoc]
  | v :: w => by have := zct_nn w; unfold zoc; split <;> omega
theorem zbr_c {x : Int} : zbr (x :: w) = if zib x = true then x else zbr w := by
  unfold zbr
  simp only [zdb]
  by_cases g : zib x = true
  · simp only [g, if_true]
  · simp only [g, if_false, Bool.false_eq_true]
theorem l_272 (hM : MI h) (e115 : ah_m h 1036 115 = w0.length) : ∀ (v : List Int) (i : Int), Stk h (v ++ w0) → i + 1 = (v ++ w0).length → (v.length : Int) + w0.length ≤ 1690 → wpB (d + 1) 272 7 [some (.inr (.inr 1036)), some (.inl i)] [] h (fun o h1 => o = .inl (some (.inl (zbr v))) ∧ h1 = h) := by
  intro v
  induction v with
  | nil =>
    intro i hS hi hl
    simp only [List.nil_append] at hi
    have hlt : i < (w0.length : Int) := by omega
    have ez : zbr [] = -1 := rfl
    simp (disch := omega) only [q_272_7, b_272_7, q_272_33, b_272_33, q_272_50, b_272_50, q_272_51, b_272_51, ↓w_iconst, ↓w_aload_n_0, ↓w_iload_n_1, ↓w_iinc_1, ↓w_getfield, ↓w_iaload, ↓w_nop, ↓w_goto, ↓w_ifCond_ne, ↓w_if_icmp_lt, ↓w_ireturn0, ↓w_invokestatic_1, stw_0, stw_i, stw_l, stw_r, ofK0, ofK1, ofK2, lst1, lst2, lkill, kont_none, kont_some, Int.reduceToNat, List.length_cons, List.length_nil, Nat.reduceAdd, Nat.reduceLeDiff, Nat.zero_le, true_and, and_true, if_true, if_false, ne_eq, Int.reduceEq, Int.reduceNeg, not_false_eq_true, not_true_eq_false, ↓reduceIte, Int.reduceLT, Int.reduceLE, and_self, or_true, true_or, or_false, false_or, false_and, and_false, ah_t_w, ah_m_w, ah_n_w, lst1_0, List.tail_cons, w32_i, zbd, lst2_0, mt_1036a hM, mt_1118a hM, mt_1118b hM, mf_112 hM, e115, hlt, ez]
  | cons x v ih =>
    intro i hS hi hl
    have hS1 := hS.1
    have hS2 : Stk h (v ++ w0) := hS.2
    have ei : i = ((v ++ w0).length : Int) := by simp at hi ⊢; omega
    have hl2 : ((v ++ w0).length : Int) = v.length + w0.length := by simp
    simp only [List.length_cons] at hl
    have hlt : ¬ i < (w0.length : Int) := by omega
    have hx : ah_m h 1118 i = x := by rw [ei]; exact hS1
    rw [q_272_7, zbr_c]
    cases g : zib x
    · rw [if_neg (by decide)]
      simp (disch := omega) only [b_272_7, ↓w_aload_n_0, ↓w_iload_n_1, ↓w_iinc_1, ↓w_getfield, ↓w_iaload, ↓w_goto, ↓w_ifCond_ne, ↓w_if_icmp_lt, ↓w_invokestatic_1, stw_0, stw_i, stw_l, stw_r, ofK0, ofK1, ofK2, lst1, lst2, lkill, kont_none, kont_some, Int.reduceToNat, List.length_cons, List.length_nil, Nat.reduceAdd, Nat.reduceLeDiff, Nat.zero_le, true_and, and_true, if_true, if_false, ne_eq, Int.reduceEq, Int.reduceNeg, not_false_eq_true, not_true_eq_false, ↓reduceIte, Int.reduceLT, Int.reduceLE, and_self, or_true, true_or, or_false, false_or, false_and, and_false, ah_t_w, ah_m_w, ah_n_w, lst1_0, List.tail_cons, w32_i, zbd, lst2_0, mt_1036a hM, mt_1118a hM, mt_1118b hM, mf_112 hM, e115, hlt, hx, c_273, g, zb_f]
      exact ih (i + -1) hS2 (by omega) (by omega)
    · rw [if_pos rfl]
      simp (disch := omega) only [b_272_7, q_272_33, b_272_33, q_272_51, b_272_51, ↓w_aload_n_0, ↓w_iload_n_1, ↓w_iinc_1, ↓w_getfield, ↓w_iaload, ↓w_goto, ↓w_ifCond_ne, ↓w_if_icmp_lt, ↓w_ireturn0, ↓w_invokestatic_1, stw_0, stw_i, stw_l, stw_r, ofK0, ofK1, ofK2, lst1, lst2, lkill, kont_none, kont_some, Int.reduceToNat, List.length_cons, List.length_nil, Nat.reduceAdd, Nat.reduceLeDiff, Nat.zero_le, true_and, and_true, if_true, if_false, ne_eq, Int.reduceEq, Int.reduceNeg, not_false_eq_true, not_true_eq_false, ↓reduceIte, Int.reduceLT, Int.reduceLE, and_self, or_true, true_or, or_false, false_or, false_and, and_false, ah_t_w, ah_m_w, ah_n_w, lst1_0, List.tail_cons, w32_i, zbd, lst2_0, mt_1036a hM, mt_1118a hM, mt_1118b hM, mf_112 hM, e115, hlt, hx, c_273, g, zb_t]
theorem c_272 (hQ : MQs hm t n k w0 w cs o h) (hl : (w.length : Int) + w0.length ≤ 1690) : wpC (d + 2) 272 [.inr (.inr 1036)] h Q ↔ Q (.inl (some (.inl (zbr w)))) h := by
  obtain ⟨a0, a1, a2, a3, a4, a5, a6, a7⟩ := hQ
  have hM := a0.1
  have hl2 : ((w ++ w0).length : Int) = w.length + w0.length := by simp
  apply CT_iff; apply CT_of; rw [wpC_B]; refine ⟨⟨Nat.zero_lt_succ _, Nat.le_of_ble_eq_true rfl⟩, ?_⟩; simp only [lent]
  simp (disch := omega) only [q_272_0, b_272_0, ↓w_iconst, ↓w_aload_n_0, ↓w_istore_n_1, ↓w_isub, ↓w_getfield, ↓w_nop, stw_0, stw_i, stw_l, stw_r, ofK0, ofK1, ofK2, lst1, lst2, lkill, kont_none, kont_some, Int.reduceToNat, List.length_cons, List.length_nil, Nat.reduceAdd, Nat.reduceLeDiff, Nat.zero_le, true_and, and_true, if_true, if_false, ne_eq, Int.reduceEq, Int.reduceNeg, not_false_eq_true, not_true_eq_false, ↓reduceIte, Int.reduceLT, Int.reduceLE, and_self, or_true, true_or, or_false, false_or, false_and, and_false, ah_t_w, ah_m_w, ah_n_w, lst1_0, List.tail_cons, w32_i, zbd, lst2_0, mt_1036a hM, a2]
  exact l_272 hM a3 w _ a1 (by omega) hl
theorem l_274 {R : List Int × List Int} {C : List Int} (hq : ∀ h', MQs hm t n k w0 R.2 C o h' → Off WQ h h' → Q (.inl none) h') : ∀ (w cs : List Int) h', MQs hm t n k w0 w cs o h' → Off WQ h h' → (cs.length : Int) + w.length + w0.length ≤ 1690 → (zdb w).2 = R.2 → cs ++ (zdb w).1 = C → wpB (d + 2) 274 0 [some (.inr (.inr 1036))] [] h' Q := by
  intro w
  induction w with
  | nil =>
    intro cs h' hQ hO hl e1 e2
    have hQ' := hQ
    obtain ⟨a0, a1, a2, a3, a4, a5, a6, a7⟩ := hQ
    simp only [List.nil_append] at a2
    have hM := a0.1
    simp only [zdb, List.append_nil] at e1 e2
    rw [← e1, ← e2] at hq
    have hlt : ¬ (w0.length : Int) < w0.length := by omega
    simp (disch := omega) only [q_274_0, b_274_0, q_274_35, b_274_35, ↓w_iconst, ↓w_aload_n_0, ↓w_isub, ↓w_getfield, ↓w_iaload, ↓w_goto, ↓w_ifCond_ne, ↓w_if_icmp_le, ↓w_return, ↓w_invokevirtual_0, ↓w_invokestatic_1, stw_0, stw_i, stw_l, stw_r, ofK0, ofK1, ofK2, lst1, lst2, lkill, kont_none, kont_some, Int.reduceToNat, List.length_cons, List.length_nil, Nat.reduceAdd, Nat.reduceLeDiff, Nat.zero_le, true_and, and_true, if_true, if_false, ne_eq, Int.reduceEq, Int.reduceNeg, not_false_eq_true, not_true_eq_false, ↓reduceIte, Int.reduceLT, Int.reduceLE, and_self, or_true, true_or, or_false, false_or, false_and, and_false, ah_t_w, ah_m_w, ah_n_w, lst1_0, List.tail_cons, w32_i, zbd, lst2_0, mt_1036a hM, mt_1118a hM, mt_1118b hM, mf_112 hM, a2, a3, hlt]
    exact hq _ hQ' hO
  | cons x w ih =>
    intro cs h' hQ hO hl e1 e2
    have hQ' := hQ
    obtain ⟨a0, a1, a2, a3, a4, a5, a6, a7⟩ := hQ
    have hM := a0.1
    have hl2 : ((w ++ w0).length : Int) = w.length + w0.length := by simp
    have f2 : ah_m h' 1036 113 = ((w ++ w0).length : Int) + 1 := by rw [a2]; simp
    have f1 : ah_m h' 1118 (w ++ w0).length = x := a1.1
    have f3 : ((w ++ w0).length : Int) + 1 - 1 = (w ++ w0).length := by omega
    simp only [List.length_cons] at hl
    have hlt : (w0.length : Int) < ((w ++ w0).length : Int) + 1 := by omega
    rw [q_274_0]
    simp only [zdb] at e1 e2
    cases g : zib x
    · rw [g, if_neg (by decide)] at e1 e2
      simp (disch := omega) only [b_274_0, ↓w_iconst, ↓w_aload_n_0, ↓w_isub, ↓w_getfield, ↓w_iaload, ↓w_goto, ↓w_ifCond_ne, ↓w_if_icmp_le, ↓w_invokevirtual_0, ↓w_invokestatic_1, stw_0, stw_i, stw_l, stw_r, ofK0, ofK1, ofK2, lst1, lst2, lkill, kont_none, kont_some, Int.reduceToNat, List.length_cons, List.length_nil, Nat.reduceAdd, Nat.reduceLeDiff, Nat.zero_le, true_and, and_true, if_true, if_false, ne_eq, Int.reduceEq, Int.reduceNeg, not_false_eq_true, not_true_eq_false, ↓reduceIte, Int.reduceLT, Int.reduceLE, and_self, or_true, true_or, or_false, false_or, false_and, and_false, ah_t_w, ah_m_w, ah_n_w, lst1_0, List.tail_cons, w32_i, zbd, lst2_0, mt_1036a hM, mt_1118a hM, mt_1118b hM, mf_112 hM, f1, f2, f3, a3, hlt, c_273, g, zb_f]
      refine c_270 hQ' (by simp only [List.length_cons]; omega) (fun h2 hQ2 hO2 => ?_)
      simp (disch := omega) only [b_274_0, ↓w_iconst, ↓w_aload_n_0, ↓w_isub, ↓w_getfield, ↓w_iaload, ↓w_goto, ↓w_ifCond_ne, ↓w_if_icmp_le, ↓w_invokevirtual_0, ↓w_invokestatic_1, stw_0, stw_i, stw_l, stw_r, ofK0, ofK1, ofK2, lst1, lst2, lkill, kont_none, kont_some, Int.reduceToNat, List.length_cons, List.length_nil, Nat.reduceAdd, Nat.reduceLeDiff, Nat.zero_le, true_and, and_true, if_true, if_false, ne_eq, Int.reduceEq, Int.reduceNeg, not_false_eq_true, not_true_eq_false, ↓reduceIte, Int.reduceLT, Int.reduceLE, and_self, or_true, true_or, or_false, false_or, false_and, and_false, ah_t_w, ah_m_w, ah_n_w, lst1_0, List.tail_cons, w32_i, zbd, lst2_0]
      refine ih (cs ++ [x]) h2 hQ2 (Off_tr hO hO2) (by simp only [List.length_append, List.length_cons, List.length_nil]; omega) e1 ?_
      rw [← e2]; simp
    · rw [g, if_pos rfl] at e1 e2
      simp only [List.append_nil] at e2
      rw [← e1, ← e2] at hq
      simp (disch := omega) only [b_274_0, q_274_35, b_274_35, ↓w_iconst, ↓w_aload_n_0, ↓w_isub, ↓w_getfield, ↓w_iaload, ↓w_goto, ↓w_ifCond_ne, ↓w_if_icmp_le, ↓w_return, ↓w_invokevirtual_0, ↓w_invokestatic_1, stw_0, stw_i, stw_l, stw_r, ofK0, ofK1, ofK2, lst1, lst2, lkill, kont_none, kont_some, Int.reduceToNat, List.length_cons, List.length_nil, Nat.reduceAdd, Nat.reduceLeDiff, Nat.zero_le, true_and, and_true, if_true, if_false, ne_eq, Int.reduceEq, Int.reduceNeg, not_false_eq_true, not_true_eq_false, ↓reduceIte, Int.reduceLT, Int.reduceLE, and_self, or_true, true_or, or_false, false_or, false_and, and_false, ah_t_w, ah_m_w, ah_n_w, lst1_0, List.tail_cons, w32_i, zbd, lst2_0, mt_1036a hM, mt_1118a hM, mt_1118b hM, mf_112 hM, f1, f2, f3, a3, hlt, c_273, g, zb_t]
      exact hq _ hQ' hO
theorem c_274 (hQ : MQs hm t n k w0 w cs o h) (hl : (cs.length : Int) + w.length + w0.length ≤ 1690) (hq : ∀ h', MQs hm t n k w0 (zdb w).2 (cs ++ (zdb w).1) o h' → Off WQ h h' → Q (.inl none) h') : wpC (d + 3) 274 [.inr (.inr 1036)] h Q := by
  rw [wpC_B]; refine ⟨⟨Nat.zero_lt_succ _, Nat.le_of_ble_eq_true rfl⟩, ?_⟩; simp only [lent]
  exact l_274 (R := zdb w) (C := cs ++ (zdb w).1) hq w cs h hQ Off_rfl hl rfl rfl
theorem MQ_o {z : Int} (hQ : MQs hm t n k w0 w cs o h) : MQs hm t n k w0 w cs z (ah_w h 1036 114 z) := by
  obtain ⟨a0, a1, a2, a3, a4, a5, a6, a7⟩ := hQ
  refine ⟨LX_w a0 (by omega), Stk_w a1 (by omega), ?_, ?_, Cods_w a4 (by omega), ?_, ?_, ?_⟩
  · rw [ah_m_w, if_neg (by omega)]; exact a2
  · rw [ah_m_w, if_neg (by omega)]; exact a3
  · rw [ah_m_w, if_neg (by omega)]; exact a5
  · rw [ah_m_w, if_pos ⟨rfl, rfl⟩]
  · rw [ah_m_w, if_neg (by omega)]; exact a7
theorem l_269 {R : List Int} {C : List Int} {O : Int} (hq : ∀ h', MQs hm t n k w0 R C O h' → Off WQ h h' → Q (.inl none) h') : ∀ (w cs : List Int) (o : Int) h', MQs hm t n k w0 w cs o h' → Off WQ h h' → (cs.length : Int) + w.length + w0.length ≤ 1690 → (z60 w).1.length ≤ o → o ≤ 6 → (z60 w).2 = R → cs ++ (z60 w).1 = C → o - (z60 w).1.length = O → wpB (d + 2) 269 0 [some (.inr (.inr 1036))] [] h' Q := by
  intro w
  induction w with
  | nil =>
    intro cs o h' hQ hO hl ho ho2 e1 e2 e3
    have hQ' := hQ
    obtain ⟨a0, a1, a2, a3, a4, a5, a6, a7⟩ := hQ
    have h5 := a0.2.2.2.2.1
    simp only [List.nil_append] at a2
    have hM := a0.1
    simp only [z60, List.append_nil, List.length_nil, Int.natCast_zero, Int.cast_ofNat_Int, Int.sub_zero] at e1 e2 e3
    rw [← e1, ← e2, ← e3] at hq
    have hlt : ¬ (w0.length : Int) < w0.length := by omega
    simp (disch := omega) only [q_269_0, b_269_0, q_269_51, b_269_51, ↓w_iconst, ↓w_bipush, ↓w_aload_n_0, ↓w_dup_i, ↓w_dup_a, ↓w_isub, ↓w_getfield, ↓w_putfield_0, ↓w_iaload, ↓w_goto, ↓w_ifCond_ne, ↓w_if_icmp_lt, ↓w_if_icmp_le, ↓w_return, ↓w_invokevirtual_0, stw_0, stw_i, stw_l, stw_r, ofK0, ofK1, ofK2, lst1, lst2, lkill, kont_none, kont_some, Int.reduceToNat, List.length_cons, List.length_nil, Nat.reduceAdd, Nat.reduceLeDiff, Nat.zero_le, true_and, and_true, if_true, if_false, ne_eq, Int.reduceEq, Int.reduceNeg, not_false_eq_true, not_true_eq_false, ↓reduceIte, Int.reduceLT, Int.reduceLE, and_self, or_true, true_or, or_false, false_or, false_and, and_false, ah_t_w, ah_m_w, ah_n_w, lst1_0, List.tail_cons, w32_i, zbd, lst2_0, mt_1036a hM, mt_1118a hM, mt_1118b hM, mf_112 hM, h5, a2, a3, hlt]
    exact hq _ hQ' hO
  | cons x w ih =>
    intro cs o h' hQ hO hl ho ho2 e1 e2 e3
    have hQ' := hQ
    obtain ⟨a0, a1, a2, a3, a4, a5, a6, a7⟩ := hQ
    have h5 := a0.2.2.2.2.1
    have hM := a0.1
    have hl2 : ((w ++ w0).length : Int) = w.length + w0.length := by simp
    have f2 : ah_m h' 1036 113 = ((w ++ w0).length : Int) + 1 := by rw [a2]; simp
    have f1 : ah_m h' 1118 (w ++ w0).length = x := a1.1
    have f3 : ((w ++ w0).length : Int) + 1 - 1 = (w ++ w0).length := by omega
    simp only [List.length_cons] at hl
    have hlt : (w0.length : Int) < ((w ++ w0).length : Int) + 1 := by omega
    rw [q_269_0]
    simp only [z60] at e1 e2 e3 ho
    by_cases g : 60 ≤ x
    · have g' : ¬ x < 60 := by omega
      rw [if_pos g] at e1 e2 e3 ho
      simp only [List.length_cons] at e3 ho
      simp (disch := omega) only [b_269_0, ↓w_iconst, ↓w_bipush, ↓w_aload_n_0, ↓w_dup_i, ↓w_dup_a, ↓w_isub, ↓w_getfield, ↓w_putfield_0, ↓w_iaload, ↓w_goto, ↓w_ifCond_ne, ↓w_if_icmp_lt, ↓w_if_icmp_le, ↓w_invokevirtual_0, stw_0, stw_i, stw_l, stw_r, ofK0, ofK1, ofK2, lst1, lst2, lkill, kont_none, kont_some, Int.reduceToNat, List.length_cons, List.length_nil, Nat.reduceAdd, Nat.reduceLeDiff, Nat.zero_le, true_and, and_true, if_true, if_false, ne_eq, Int.reduceEq, Int.reduceNeg, not_false_eq_true, not_true_eq_false, ↓reduceIte, Int.reduceLT, Int.reduceLE, and_self, or_true, true_or, or_false, false_or, false_and, and_false, ah_t_w, ah_m_w, ah_n_w, lst1_0, List.tail_cons, w32_i, zbd, lst2_0, mt_1036a hM, mt_1118a hM, mt_1118b hM, mf_112 hM, h5, f1, f2, f3, a3, a6, hlt, g']
      refine c_270 (MQ_o hQ') (by simp only [List.length_cons]; omega) (fun h2 hQ2 hO2 => ?_)
      simp (disch := omega) only [b_269_0, ↓w_iconst, ↓w_bipush, ↓w_aload_n_0, ↓w_dup_i, ↓w_dup_a, ↓w_isub, ↓w_getfield, ↓w_putfield_0, ↓w_iaload, ↓w_goto, ↓w_ifCond_ne, ↓w_if_icmp_lt, ↓w_if_icmp_le, ↓w_invokevirtual_0, stw_0, stw_i, stw_l, stw_r, ofK0, ofK1, ofK2, lst1, lst2, lkill, kont_none, kont_some, Int.reduceToNat, List.length_cons, List.length_nil, Nat.reduceAdd, Nat.reduceLeDiff, Nat.zero_le, true_and, and_true, if_true, if_false, ne_eq, Int.reduceEq, Int.reduceNeg, not_false_eq_true, not_true_eq_false, ↓reduceIte, Int.reduceLT, Int.reduceLE, and_self, or_true, true_or, or_false, false_or, false_and, and_false, ah_t_w, ah_m_w, ah_n_w, lst1_0, List.tail_cons, w32_i, zbd, lst2_0]
      refine ih (cs ++ [x]) (o - 1) h2 hQ2 (Off_tr hO (Off_tr (Off_w Off_rfl (by unfold WQ; omega)) hO2)) (by simp only [List.length_append, List.length_cons, List.length_nil]; omega) (by omega) (by omega) e1 ?_ (by omega)
      rw [← e2]; simp
    · have g' : x < 60 := by omega
      rw [if_neg g] at e1 e2 e3
      simp only [List.append_nil, List.length_nil, Int.natCast_zero, Int.cast_ofNat_Int, Int.sub_zero] at e2 e3
      rw [← e1, ← e2, ← e3] at hq
      simp (disch := omega) only [b_269_0, q_269_51, b_269_51, ↓w_iconst, ↓w_bipush, ↓w_aload_n_0, ↓w_dup_i, ↓w_dup_a, ↓w_isub, ↓w_getfield, ↓w_putfield_0, ↓w_iaload, ↓w_goto, ↓w_ifCond_ne, ↓w_if_icmp_lt, ↓w_if_icmp_le, ↓w_return, ↓w_invokevirtual_0, stw_0, stw_i, stw_l, stw_r, ofK0, ofK1, ofK2, lst1, lst2, lkill, kont_none, kont_some, Int.reduceToNat, List.length_cons, List.length_nil, Nat.reduceAdd, Nat.reduceLeDiff, Nat.zero_le, true_and, and_true, if_true, if_false, ne_eq, Int.reduceEq, Int.reduceNeg, not_false_eq_true, not_true_eq_false, ↓reduceIte, Int.reduceLT, Int.reduceLE, and_self, or_true, true_or, or_false, false_or, false_and, and_false, ah_t_w, ah_m_w, ah_n_w, lst1_0, List.tail_cons, w32_i, zbd, lst2_0, mt_1036a hM, mt_1118a hM, mt_1118b hM, mf_112 hM, h5, f1, f2, f3, a3, hlt, g']
      exact hq _ hQ' hO
theorem c_269 (hQ : MQs hm t n k w0 w cs o h) (hl : (cs.length : Int) + w.length + w0.length ≤ 1690) (ho : (z60 w).1.length ≤ o) (ho2 : o ≤ 6) (hq : ∀ h', MQs hm t n k w0 (z60 w).2 (cs ++ (z60 w).1) (o - (z60 w).1.length) h' → Off WQ h h' → Q (.inl none) h') : wpC (d + 3) 269 [.inr (.inr 1036)] h Q := by
  rw [wpC_B]; refine ⟨⟨Nat.zero_lt_succ _, Nat.le_of_ble_eq_true rfl⟩, ?_⟩; simp only [lent]
  exact l_269 hq w cs o h hQ Off_rfl hl ho ho2 rfl rfl rfl
theorem b_269 {kk pp : Int} (hB : BX kk pp h) : wpC (d + 1) 269 [.inr (.inr 1036)] h Q ↔ Q (.inl none) h := by
  have e := hB.2.1; have hk := hB.2.2.2
  apply CT_iff; apply CT_of; rw [wpC_B]; refine ⟨⟨Nat.zero_lt_succ _, Nat.le_of_ble_eq_true rfl⟩, ?_⟩; simp only [lent]
  simp (disch := omega) only [q_269_0, b_269_0, q_269_51, b_269_51, ↓w_iconst, ↓w_bipush, ↓w_aload_n_0, ↓w_dup_i, ↓w_dup_a, ↓w_isub, ↓w_getfield, ↓w_putfield_0, ↓w_iaload, ↓w_goto, ↓w_ifCond_ne, ↓w_if_icmp_lt, ↓w_if_icmp_le, ↓w_return, ↓w_invokevirtual_0, stw_0, stw_i, stw_l, stw_r, ofK0, ofK1, ofK2, lst1, lst2, lkill, kont_none, kont_some, Int.reduceToNat, List.length_cons, List.length_nil, Nat.reduceAdd, Nat.reduceLeDiff, Nat.zero_le, true_and, and_true, if_true, if_false, ne_eq, Int.reduceEq, Int.reduceNeg, not_false_eq_true, not_true_eq_false, ↓reduceIte, Int.reduceLT, Int.reduceLE, and_self, or_true, true_or, or_false, false_or, false_and, and_false, ah_t_w, ah_m_w, ah_n_w, lst1_0, List.tail_cons, w32_i, zbd, lst2_0, mt_1036a hB.1, mt_1118a hB.1, mt_1118b hB.1, mf_112 hB.1, e, hk]
theorem z60_ct : ∀ (w : List Int), ((z60 w).1.length : Int) + zoc (z60 w).2 = zoc w ∧ (z60 w).1.length + (z60 w).2.length = w.length
  | [] => by simp [z60, zoc]
  | v :: w => by
    have := z60_ct w
    unfold z60
    by_cases g : 60 ≤ v
    · rw [if_pos g]; simp only [zoc, List.length_cons]; rw [if_pos (by omega)]; omega
    · rw [if_neg g]; simp
theorem zdb_ct : ∀ (w : List Int), zoc (zdb w).2 ≤ zoc w ∧ (zdb w).1.length + (zdb w).2.length = w.length
  | [] => by simp [zdb, zoc]
  | v :: w => by
    have := zdb_ct w
    unfold zdb
    by_cases g : zib v = true
    · rw [if_pos g]; simp
    · rw [if_neg g]; simp only [zoc, List.length_cons]; split <;> omega
theorem zdr_ct {m : Int} : ∀ (w : List Int), zoc (zdr m w).2 ≤ zoc w ∧ (zdr m w).1.length + (zdr m w).2.length = w.length
  | [] => by simp [zdr, zoc]
  | v :: w => by
    have := @zdr_ct m w
    unfold zdr
    by_cases g : m ≤ v ∧ v ≤ 4
    · rw [if_pos g]; simp only [zoc, List.length_cons]; split <;> omega
    · rw [if_neg g]; simp
end Q4
