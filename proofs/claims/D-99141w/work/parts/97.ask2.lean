/-! ===== M: questions ===== -/
section ASK2
variable {d : Nat} {h h0 : AH} {Q : QQ} {x y z m k s l w a b c v n p r o kd : Int} {T : Int → Int → Int} {nw t : Int → Int} {cs : List Int}
set_option maxHeartbeats 4000000
theorem c_376 {i : Int} {nb : Bool} (hM : MI h) (hk : 0 ≤ kd ∧ kd ≤ 5) (e118 : ah_m h 1036 118 = a) (e119 : ah_m h 1036 119 = zb nb) (hv : -1000000 ≤ v ∧ v ≤ 1000000) (ha : -10000000 ≤ a ∧ a ≤ 10000000)
    (hQ : ∀ h', Off (fun r i => r = 1036 ∧ (i = 118 ∨ i = 119)) h h' → ah_m h' 1036 118 = (zqf kd v i (a, nb)).1 → ah_m h' 1036 119 = 0 → Q (.inl none) h') : wpC (d + 1) 376 [.inr (.inr 1036), .inl kd, .inr (.inl v), .inl i] h Q := by
  have fin0 : ∀ tl, wpB d 376 133 (some (.inr (.inr 1036)) :: tl) [] h (fun o h' => o = .inl none ∧ h' = ah_w h 1036 119 0) := by
    intro tl
    simp (disch := omega) only [q_376_133, b_376_133, ↓w_iconst, ↓w_aload_n_0, ↓w_putfield_3, ↓w_return, stw_0, stw_i, stw_l, stw_r, ofK0, ofK1, ofK2, lst1, lst2, lkill, kont_none, kont_some, Int.reduceToNat, List.length_cons, List.length_nil, Nat.reduceAdd, Nat.reduceLeDiff, Nat.zero_le, true_and, and_true, if_true, if_false, ne_eq, Int.reduceEq, Int.reduceNeg, not_false_eq_true, not_true_eq_false, ↓reduceIte, Int.reduceLT, Int.reduceLE, and_self, or_true, true_or, or_false, false_or, false_and, and_false, ah_t_w, ah_m_w, ah_n_w, lst1_0, List.tail_cons, w32_i, zbd, lst2_0, mt_1036a hM]
  have fin1 : ∀ z tl, wpB d 376 133 (some (.inr (.inr 1036)) :: tl) [] (ah_w h 1036 118 z) (fun o h' => o = .inl none ∧ h' = ah_w (ah_w h 1036 118 z) 1036 119 0) := by
    intro z tl
    simp (disch := omega) only [q_376_133, b_376_133, ↓w_iconst, ↓w_aload_n_0, ↓w_putfield_3, ↓w_return, stw_0, stw_i, stw_l, stw_r, ofK0, ofK1, ofK2, lst1, lst2, lkill, kont_none, kont_some, Int.reduceToNat, List.length_cons, List.length_nil, Nat.reduceAdd, Nat.reduceLeDiff, Nat.zero_le, true_and, and_true, if_true, if_false, ne_eq, Int.reduceEq, Int.reduceNeg, not_false_eq_true, not_true_eq_false, ↓reduceIte, Int.reduceLT, Int.reduceLE, and_self, or_true, true_or, or_false, false_or, false_and, and_false, ah_t_w, ah_m_w, ah_n_w, lst1_0, List.tail_cons, w32_i, zbd, lst2_0, mt_1036a hM]
  have q0 : (zqf kd v i (a, nb)).1 = a → ∀ tl, wpB d 376 133 (some (.inr (.inr 1036)) :: tl) [] h Q := by
    intro e tl
    refine wpB_mono (fin0 tl) (fun o h' q => ?_)
    rw [q.1, q.2]
    exact hQ _ (Off_w Off_rfl (by omega)) (by rw [ah_m_w, if_neg (by omega), e118, e]) (by rw [ah_m_w, if_pos ⟨rfl, rfl⟩])
  have q1 : ∀ z, (zqf kd v i (a, nb)).1 = z → ∀ tl, wpB d 376 133 (some (.inr (.inr 1036)) :: tl) [] (ah_w h 1036 118 z) Q := by
    intro z e tl
    refine wpB_mono (fin1 z tl) (fun o h' q => ?_)
    rw [q.1, q.2]
    exact hQ _ (Off_w (Off_w Off_rfl (by omega)) (by omega)) (by rw [ah_m_w, if_neg (by omega), ah_m_w, if_pos ⟨rfl, rfl⟩, e]) (by rw [ah_m_w, if_pos ⟨rfl, rfl⟩])
  have ew1 : w64 (a + 1) = a + 1 := w64_i (by omega) (by omega)
  have ewv : w64 (a + v) = a + v := w64_i (by omega) (by omega)
  rw [wpC_B]; refine ⟨⟨Nat.zero_lt_succ _, Nat.le_of_ble_eq_true rfl⟩, ?_⟩; simp only [lent]
  have hkd : kd = 0 ∨ kd = 1 ∨ kd = 2 ∨ kd = 3 ∨ kd = 4 ∨ kd = 5 := by omega
  unfold zqf at q0 q1
  rcases hkd with g | g | g | g | g | g <;> subst g <;> simp only [Int.reduceEq, if_true, if_false] at q0 q1
  · by_cases g1 : v = 1
    · by_cases g2 : a = -1
      · rw [if_pos ⟨g1, g2⟩] at q1
        simp (disch := omega) only [q_376_0, b_376_0, q_376_16, b_376_16, q_376_48, b_376_48, q_376_55, b_376_55, q_376_75, b_376_75, q_376_90, b_376_90, ↓w_iconst, ↓w_lconst, ↓w_ldc2_w, ↓w_aload_n_0, ↓w_iload_n_1, ↓w_lload_n_2, ↓w_iload_4, ↓w_iload_5, ↓w_istore, ↓w_dup_i, ↓w_dup_a, ↓w_ladd, ↓w_lcmp, ↓w_i2l, ↓w_getfield, ↓w_putfield_1, ↓w_nop, ↓w_goto, ↓w_ifCond_eq, ↓w_ifCond_ne, ↓w_if_icmp_ne, ↓w_if_icmp_ge, ↓w_ifCond_le, ↓w_if_icmp_le, stw_0, stw_i, stw_l, stw_r, ofK0, ofK1, ofK2, lst1, lst2, lkill, kont_none, kont_some, Int.reduceToNat, List.length_cons, List.length_nil, Nat.reduceAdd, Nat.reduceLeDiff, Nat.zero_le, true_and, and_true, if_true, if_false, ne_eq, Int.reduceEq, Int.reduceNeg, not_false_eq_true, not_true_eq_false, ↓reduceIte, Int.reduceLT, Int.reduceLE, and_self, or_true, true_or, or_false, false_or, false_and, and_false, ah_t_w, ah_m_w, ah_n_w, lst1_0, List.tail_cons, w32_i, zbd, lst2_0, lc_gt, lc_lt, lc_eq, mt_1036a hM, g1, e118, g2]
        exact q1 _ rfl _
      · rw [if_neg (fun q => g2 q.2)] at q0
        simp (disch := omega) only [q_376_0, b_376_0, q_376_16, b_376_16, q_376_38, b_376_38, q_376_55, b_376_55, q_376_75, b_376_75, q_376_90, b_376_90, ↓w_iconst, ↓w_lconst, ↓w_ldc2_w, ↓w_aload_n_0, ↓w_iload_n_1, ↓w_lload_n_2, ↓w_iload_5, ↓w_istore, ↓w_dup_i, ↓w_dup_a, ↓w_ladd, ↓w_lcmp, ↓w_getfield, ↓w_putfield_1, ↓w_nop, ↓w_goto, ↓w_ifCond_eq, ↓w_ifCond_ne, ↓w_if_icmp_ne, ↓w_if_icmp_ge, ↓w_ifCond_le, ↓w_if_icmp_le, stw_0, stw_i, stw_l, stw_r, ofK0, ofK1, ofK2, lst1, lst2, lkill, kont_none, kont_some, Int.reduceToNat, List.length_cons, List.length_nil, Nat.reduceAdd, Nat.reduceLeDiff, Nat.zero_le, true_and, and_true, if_true, if_false, ne_eq, Int.reduceEq, Int.reduceNeg, not_false_eq_true, not_true_eq_false, ↓reduceIte, Int.reduceLT, Int.reduceLE, and_self, or_true, true_or, or_false, false_or, false_and, and_false, ah_t_w, ah_m_w, ah_n_w, lst1_0, List.tail_cons, w32_i, zbd, lst2_0, lc_gt, lc_lt, lc_eq, mt_1036a hM, g1, e118, g2]
        exact q0 rfl _
    · rw [if_neg (fun q => g1 q.1)] at q0
      simp (disch := omega) only [q_376_0, b_376_0, q_376_15, b_376_15, q_376_16, b_376_16, q_376_38, b_376_38, q_376_55, b_376_55, q_376_75, b_376_75, q_376_90, b_376_90, ↓w_iconst, ↓w_lconst, ↓w_ldc2_w, ↓w_aload_n_0, ↓w_iload_n_1, ↓w_lload_n_2, ↓w_iload_5, ↓w_istore, ↓w_dup_i, ↓w_dup_a, ↓w_ladd, ↓w_lcmp, ↓w_getfield, ↓w_putfield_1, ↓w_nop, ↓w_goto, ↓w_ifCond_eq, ↓w_ifCond_ne, ↓w_if_icmp_ne, ↓w_if_icmp_ge, ↓w_ifCond_le, ↓w_if_icmp_le, stw_0, stw_i, stw_l, stw_r, ofK0, ofK1, ofK2, lst1, lst2, lkill, kont_none, kont_some, Int.reduceToNat, List.length_cons, List.length_nil, Nat.reduceAdd, Nat.reduceLeDiff, Nat.zero_le, true_and, and_true, if_true, if_false, ne_eq, Int.reduceEq, Int.reduceNeg, not_false_eq_true, not_true_eq_false, ↓reduceIte, Int.reduceLT, Int.reduceLE, and_self, or_true, true_or, or_false, false_or, false_and, and_false, ah_t_w, ah_m_w, ah_n_w, lst1_0, List.tail_cons, w32_i, zbd, lst2_0, lc_gt, lc_lt, lc_eq, mt_1036a hM, g1, e118]
      exact q0 rfl _
  · by_cases g1 : v = 1
    · rw [if_pos g1] at q1
      simp (disch := omega) only [q_376_0, b_376_0, q_376_16, b_376_16, q_376_38, b_376_38, q_376_48, b_376_48, q_376_55, b_376_55, q_376_75, b_376_75, q_376_90, b_376_90, ↓w_iconst, ↓w_lconst, ↓w_ldc2_w, ↓w_aload_n_0, ↓w_iload_n_1, ↓w_lload_n_2, ↓w_iload_4, ↓w_iload_5, ↓w_istore, ↓w_dup_i, ↓w_dup_a, ↓w_ladd, ↓w_lcmp, ↓w_i2l, ↓w_getfield, ↓w_putfield_1, ↓w_nop, ↓w_goto, ↓w_ifCond_eq, ↓w_ifCond_ne, ↓w_if_icmp_ne, ↓w_if_icmp_ge, ↓w_ifCond_le, ↓w_if_icmp_le, stw_0, stw_i, stw_l, stw_r, ofK0, ofK1, ofK2, lst1, lst2, lkill, kont_none, kont_some, Int.reduceToNat, List.length_cons, List.length_nil, Nat.reduceAdd, Nat.reduceLeDiff, Nat.zero_le, true_and, and_true, if_true, if_false, ne_eq, Int.reduceEq, Int.reduceNeg, not_false_eq_true, not_true_eq_false, ↓reduceIte, Int.reduceLT, Int.reduceLE, and_self, or_true, true_or, or_false, false_or, false_and, and_false, ah_t_w, ah_m_w, ah_n_w, lst1_0, List.tail_cons, w32_i, zbd, lst2_0, lc_gt, lc_lt, lc_eq, mt_1036a hM, g1, e118]
      exact q1 _ rfl _
    · rw [if_neg g1] at q0
      simp (disch := omega) only [q_376_0, b_376_0, q_376_15, b_376_15, q_376_16, b_376_16, q_376_38, b_376_38, q_376_55, b_376_55, q_376_75, b_376_75, q_376_90, b_376_90, ↓w_iconst, ↓w_lconst, ↓w_ldc2_w, ↓w_aload_n_0, ↓w_iload_n_1, ↓w_lload_n_2, ↓w_iload_5, ↓w_istore, ↓w_dup_i, ↓w_dup_a, ↓w_ladd, ↓w_lcmp, ↓w_getfield, ↓w_putfield_1, ↓w_nop, ↓w_goto, ↓w_ifCond_eq, ↓w_ifCond_ne, ↓w_if_icmp_ne, ↓w_if_icmp_ge, ↓w_ifCond_le, ↓w_if_icmp_le, stw_0, stw_i, stw_l, stw_r, ofK0, ofK1, ofK2, lst1, lst2, lkill, kont_none, kont_some, Int.reduceToNat, List.length_cons, List.length_nil, Nat.reduceAdd, Nat.reduceLeDiff, Nat.zero_le, true_and, and_true, if_true, if_false, ne_eq, Int.reduceEq, Int.reduceNeg, not_false_eq_true, not_true_eq_false, ↓reduceIte, Int.reduceLT, Int.reduceLE, and_self, or_true, true_or, or_false, false_or, false_and, and_false, ah_t_w, ah_m_w, ah_n_w, lst1_0, List.tail_cons, w32_i, zbd, lst2_0, lc_gt, lc_lt, lc_eq, mt_1036a hM, g1, e118]
      exact q0 rfl _
  · by_cases g1 : v = 1
    · rw [if_pos g1] at q1
      simp (disch := omega) only [q_376_0, b_376_0, q_376_16, b_376_16, q_376_38, b_376_38, q_376_55, b_376_55, q_376_75, b_376_75, q_376_90, b_376_90, ↓w_iconst, ↓w_lconst, ↓w_ldc2_w, ↓w_aload_n_0, ↓w_iload_n_1, ↓w_lload_n_2, ↓w_iload_5, ↓w_istore, ↓w_dup_i, ↓w_dup_a, ↓w_ladd, ↓w_lcmp, ↓w_getfield, ↓w_putfield_1, ↓w_nop, ↓w_goto, ↓w_ifCond_eq, ↓w_ifCond_ne, ↓w_if_icmp_ne, ↓w_if_icmp_ge, ↓w_ifCond_le, ↓w_if_icmp_le, stw_0, stw_i, stw_l, stw_r, ofK0, ofK1, ofK2, lst1, lst2, lkill, kont_none, kont_some, Int.reduceToNat, List.length_cons, List.length_nil, Nat.reduceAdd, Nat.reduceLeDiff, Nat.zero_le, true_and, and_true, if_true, if_false, ne_eq, Int.reduceEq, Int.reduceNeg, not_false_eq_true, not_true_eq_false, ↓reduceIte, Int.reduceLT, Int.reduceLE, and_self, or_true, true_or, or_false, false_or, false_and, and_false, ah_t_w, ah_m_w, ah_n_w, lst1_0, List.tail_cons, w32_i, zbd, lst2_0, lc_gt, lc_lt, lc_eq, mt_1036a hM, g1, e118, ew1]
      exact q1 _ rfl _
    · rw [if_neg g1] at q0
      simp (disch := omega) only [q_376_0, b_376_0, q_376_15, b_376_15, q_376_16, b_376_16, q_376_38, b_376_38, q_376_55, b_376_55, q_376_75, b_376_75, q_376_90, b_376_90, ↓w_iconst, ↓w_lconst, ↓w_ldc2_w, ↓w_aload_n_0, ↓w_iload_n_1, ↓w_lload_n_2, ↓w_iload_5, ↓w_istore, ↓w_dup_i, ↓w_dup_a, ↓w_ladd, ↓w_lcmp, ↓w_getfield, ↓w_putfield_1, ↓w_nop, ↓w_goto, ↓w_ifCond_eq, ↓w_ifCond_ne, ↓w_if_icmp_ne, ↓w_if_icmp_ge, ↓w_ifCond_le, ↓w_if_icmp_le, stw_0, stw_i, stw_l, stw_r, ofK0, ofK1, ofK2, lst1, lst2, lkill, kont_none, kont_some, Int.reduceToNat, List.length_cons, List.length_nil, Nat.reduceAdd, Nat.reduceLeDiff, Nat.zero_le, true_and, and_true, if_true, if_false, ne_eq, Int.reduceEq, Int.reduceNeg, not_false_eq_true, not_true_eq_false, ↓reduceIte, Int.reduceLT, Int.reduceLE, and_self, or_true, true_or, or_false, false_or, false_and, and_false, ah_t_w, ah_m_w, ah_n_w, lst1_0, List.tail_cons, w32_i, zbd, lst2_0, lc_gt, lc_lt, lc_eq, mt_1036a hM, g1, e118]
      exact q0 rfl _
  · simp (disch := omega) only [q_376_0, b_376_0, q_376_15, b_376_15, q_376_16, b_376_16, q_376_38, b_376_38, q_376_55, b_376_55, q_376_75, b_376_75, q_376_90, b_376_90, ↓w_iconst, ↓w_lconst, ↓w_ldc2_w, ↓w_aload_n_0, ↓w_iload_n_1, ↓w_lload_n_2, ↓w_iload_5, ↓w_istore, ↓w_dup_i, ↓w_dup_a, ↓w_ladd, ↓w_lcmp, ↓w_getfield, ↓w_putfield_1, ↓w_nop, ↓w_goto, ↓w_ifCond_eq, ↓w_ifCond_ne, ↓w_if_icmp_ne, ↓w_if_icmp_ge, ↓w_ifCond_le, ↓w_if_icmp_le, stw_0, stw_i, stw_l, stw_r, ofK0, ofK1, ofK2, lst1, lst2, lkill, kont_none, kont_some, Int.reduceToNat, List.length_cons, List.length_nil, Nat.reduceAdd, Nat.reduceLeDiff, Nat.zero_le, true_and, and_true, if_true, if_false, ne_eq, Int.reduceEq, Int.reduceNeg, not_false_eq_true, not_true_eq_false, ↓reduceIte, Int.reduceLT, Int.reduceLE, and_self, or_true, true_or, or_false, false_or, false_and, and_false, ah_t_w, ah_m_w, ah_n_w, lst1_0, List.tail_cons, w32_i, zbd, lst2_0, lc_gt, lc_lt, lc_eq, mt_1036a hM, e118, ewv]
    exact q1 _ rfl _
  · cases nb
    · by_cases g1 : a < v
      · rw [if_pos (Or.inr g1)] at q1
        simp (disch := omega) only [q_376_0, b_376_0, q_376_15, b_376_15, q_376_16, b_376_16, q_376_38, b_376_38, q_376_55, b_376_55, q_376_75, b_376_75, q_376_90, b_376_90, q_376_128, b_376_128, ↓w_iconst, ↓w_lconst, ↓w_ldc2_w, ↓w_aload_n_0, ↓w_iload_n_1, ↓w_lload_n_2, ↓w_iload_5, ↓w_istore, ↓w_dup_i, ↓w_dup_a, ↓w_ladd, ↓w_lcmp, ↓w_getfield, ↓w_putfield_1, ↓w_nop, ↓w_goto, ↓w_ifCond_eq, ↓w_ifCond_ne, ↓w_if_icmp_ne, ↓w_if_icmp_ge, ↓w_ifCond_le, ↓w_if_icmp_le, stw_0, stw_i, stw_l, stw_r, ofK0, ofK1, ofK2, lst1, lst2, lkill, kont_none, kont_some, Int.reduceToNat, List.length_cons, List.length_nil, Nat.reduceAdd, Nat.reduceLeDiff, Nat.zero_le, true_and, and_true, if_true, if_false, ne_eq, Int.reduceEq, Int.reduceNeg, not_false_eq_true, not_true_eq_false, ↓reduceIte, Int.reduceLT, Int.reduceLE, and_self, or_true, true_or, or_false, false_or, false_and, and_false, ah_t_w, ah_m_w, ah_n_w, lst1_0, List.tail_cons, w32_i, zbd, lst2_0, lc_gt, lc_lt, lc_eq, mt_1036a hM, e118, e119, zb_f, g1]
        exact q1 _ rfl _
      · rw [if_neg (by simp; omega)] at q0
        simp (disch := omega) only [q_376_0, b_376_0, q_376_15, b_376_15, q_376_16, b_376_16, q_376_38, b_376_38, q_376_55, b_376_55, q_376_75, b_376_75, q_376_90, b_376_90, q_376_128, b_376_128, ↓w_iconst, ↓w_lconst, ↓w_ldc2_w, ↓w_aload_n_0, ↓w_iload_n_1, ↓w_lload_n_2, ↓w_iload_5, ↓w_istore, ↓w_dup_i, ↓w_dup_a, ↓w_ladd, ↓w_lcmp, ↓w_getfield, ↓w_putfield_1, ↓w_nop, ↓w_goto, ↓w_ifCond_eq, ↓w_ifCond_ne, ↓w_if_icmp_ne, ↓w_if_icmp_ge, ↓w_ifCond_le, ↓w_if_icmp_le, stw_0, stw_i, stw_l, stw_r, ofK0, ofK1, ofK2, lst1, lst2, lkill, kont_none, kont_some, Int.reduceToNat, List.length_cons, List.length_nil, Nat.reduceAdd, Nat.reduceLeDiff, Nat.zero_le, true_and, and_true, if_true, if_false, ne_eq, Int.reduceEq, Int.reduceNeg, not_false_eq_true, not_true_eq_false, ↓reduceIte, Int.reduceLT, Int.reduceLE, and_self, or_true, true_or, or_false, false_or, false_and, and_false, ah_t_w, ah_m_w, ah_n_w, lst1_0, List.tail_cons, w32_i, zbd, lst2_0, lc_gt, lc_lt, lc_eq, mt_1036a hM, e118, e119, zb_f, g1]
        exact q0 rfl _
    · rw [if_pos (Or.inl rfl)] at q1
      simp (disch := omega) only [q_376_0, b_376_0, q_376_15, b_376_15, q_376_16, b_376_16, q_376_38, b_376_38, q_376_55, b_376_55, q_376_75, b_376_75, q_376_90, b_376_90, q_376_128, b_376_128, ↓w_iconst, ↓w_lconst, ↓w_ldc2_w, ↓w_aload_n_0, ↓w_iload_n_1, ↓w_lload_n_2, ↓w_iload_5, ↓w_istore, ↓w_dup_i, ↓w_dup_a, ↓w_ladd, ↓w_lcmp, ↓w_getfield, ↓w_putfield_1, ↓w_nop, ↓w_goto, ↓w_ifCond_eq, ↓w_ifCond_ne, ↓w_if_icmp_ne, ↓w_if_icmp_ge, ↓w_ifCond_le, ↓w_if_icmp_le, stw_0, stw_i, stw_l, stw_r, ofK0, ofK1, ofK2, lst1, lst2, lkill, kont_none, kont_some, Int.reduceToNat, List.length_cons, List.length_nil, Nat.reduceAdd, Nat.reduceLeDiff, Nat.zero_le, true_and, and_true, if_true, if_false, ne_eq, Int.reduceEq, Int.reduceNeg, not_false_eq_true, not_true_eq_false, ↓reduceIte, Int.reduceLT, Int.reduceLE, and_self, or_true, true_or, or_false, false_or, false_and, and_false, ah_t_w, ah_m_w, ah_n_w, lst1_0, List.tail_cons, w32_i, zbd, lst2_0, lc_gt, lc_lt, lc_eq, mt_1036a hM, e118, e119, zb_t]
      exact q1 _ rfl _
  · cases nb
    · by_cases g1 : v < a
      · rw [if_pos (Or.inr g1)] at q1
        simp (disch := omega) only [q_376_0, b_376_0, q_376_15, b_376_15, q_376_16, b_376_16, q_376_38, b_376_38, q_376_55, b_376_55, q_376_75, b_376_75, q_376_90, b_376_90, q_376_119, b_376_119, q_376_128, b_376_128, ↓w_iconst, ↓w_lconst, ↓w_ldc2_w, ↓w_aload_n_0, ↓w_iload_n_1, ↓w_lload_n_2, ↓w_iload_5, ↓w_istore, ↓w_dup_i, ↓w_dup_a, ↓w_ladd, ↓w_lcmp, ↓w_getfield, ↓w_putfield_1, ↓w_nop, ↓w_goto, ↓w_ifCond_eq, ↓w_ifCond_ne, ↓w_if_icmp_ne, ↓w_ifCond_ge, ↓w_if_icmp_ge, ↓w_ifCond_le, ↓w_if_icmp_le, stw_0, stw_i, stw_l, stw_r, ofK0, ofK1, ofK2, lst1, lst2, lkill, kont_none, kont_some, Int.reduceToNat, List.length_cons, List.length_nil, Nat.reduceAdd, Nat.reduceLeDiff, Nat.zero_le, true_and, and_true, if_true, if_false, ne_eq, Int.reduceEq, Int.reduceNeg, not_false_eq_true, not_true_eq_false, ↓reduceIte, Int.reduceLT, Int.reduceLE, and_self, or_true, true_or, or_false, false_or, false_and, and_false, ah_t_w, ah_m_w, ah_n_w, lst1_0, List.tail_cons, w32_i, zbd, lst2_0, lc_gt, lc_lt, lc_eq, mt_1036a hM, e118, e119, zb_f, g1]
        exact q1 _ rfl _
      · rw [if_neg (by simp; omega)] at q0
        simp (disch := omega) only [q_376_0, b_376_0, q_376_15, b_376_15, q_376_16, b_376_16, q_376_38, b_376_38, q_376_55, b_376_55, q_376_75, b_376_75, q_376_90, b_376_90, q_376_119, b_376_119, q_376_128, b_376_128, ↓w_iconst, ↓w_lconst, ↓w_ldc2_w, ↓w_aload_n_0, ↓w_iload_n_1, ↓w_lload_n_2, ↓w_iload_5, ↓w_istore, ↓w_dup_i, ↓w_dup_a, ↓w_ladd, ↓w_lcmp, ↓w_getfield, ↓w_putfield_1, ↓w_nop, ↓w_goto, ↓w_ifCond_eq, ↓w_ifCond_ne, ↓w_if_icmp_ne, ↓w_ifCond_ge, ↓w_if_icmp_ge, ↓w_ifCond_le, ↓w_if_icmp_le, stw_0, stw_i, stw_l, stw_r, ofK0, ofK1, ofK2, lst1, lst2, lkill, kont_none, kont_some, Int.reduceToNat, List.length_cons, List.length_nil, Nat.reduceAdd, Nat.reduceLeDiff, Nat.zero_le, true_and, and_true, if_true, if_false, ne_eq, Int.reduceEq, Int.reduceNeg, not_false_eq_true, not_true_eq_false, ↓reduceIte, Int.reduceLT, Int.reduceLE, and_self, or_true, true_or, or_false, false_or, false_and, and_false, ah_t_w, ah_m_w, ah_n_w, lst1_0, List.tail_cons, w32_i, zbd, lst2_0, lc_gt, lc_lt, lc_eq, mt_1036a hM, e118, e119, zb_f, g1]
        exact q0 rfl _
    · rw [if_pos (Or.inl rfl)] at q1
      simp (disch := omega) only [q_376_0, b_376_0, q_376_15, b_376_15, q_376_16, b_376_16, q_376_38, b_376_38, q_376_55, b_376_55, q_376_75, b_376_75, q_376_90, b_376_90, q_376_128, b_376_128, ↓w_iconst, ↓w_lconst, ↓w_ldc2_w, ↓w_aload_n_0, ↓w_iload_n_1, ↓w_lload_n_2, ↓w_iload_5, ↓w_istore, ↓w_dup_i, ↓w_dup_a, ↓w_ladd, ↓w_lcmp, ↓w_getfield, ↓w_putfield_1, ↓w_nop, ↓w_goto, ↓w_ifCond_eq, ↓w_ifCond_ne, ↓w_if_icmp_ne, ↓w_if_icmp_ge, ↓w_ifCond_le, ↓w_if_icmp_le, stw_0, stw_i, stw_l, stw_r, ofK0, ofK1, ofK2, lst1, lst2, lkill, kont_none, kont_some, Int.reduceToNat, List.length_cons, List.length_nil, Nat.reduceAdd, Nat.reduceLeDiff, Nat.zero_le, true_and, and_true, if_true, if_false, ne_eq, Int.reduceEq, Int.reduceNeg, not_false_eq_true, not_true_eq_false, ↓reduceIte, Int.reduceLT, Int.reduceLE, and_self, or_true, true_or, or_false, false_or, false_and, and_false, ah_t_w, ah_m_w, ah_n_w, lst1_0, List.tail_cons, w32_i, zbd, lst2_0, lc_gt, lc_lt, lc_eq, mt_1036a hM, e118, e119, zb_t]
      exact q1 _ rfl _
/-- the kind of a question -/
theorem c_368 (hX : LX t n k h)
    (hq0 : ∀ h' z, zkd t n (zsk t n k) = -1 → BX 1 (zsk t n k) h' → Off Wlx h h' → Q (.inl (some (.inl z))) h')
    (hq1 : ∀ h', zkd t n (zsk t n k) ≠ -1 → LX t n (zsk t n k + zkl (zkd t n (zsk t n k))) h' → Off Wlx h h' → Q (.inl (some (.inl (zkd t n (zsk t n k))))) h') : wpC (d + 5) 368 [.inr (.inr 1036)] h Q := by
  have hM := hX.1
  have hbk := hX.2.2.2.2.2.1
  have hs : zsk t n (zsk t n k) = zsk t n k := zsk_zsk hbk.1 hbk.2.1
  unfold zkd at hq0 hq1
  rw [wpC_B]; refine ⟨⟨Nat.zero_lt_succ _, Nat.le_of_ble_eq_true rfl⟩, ?_⟩; simp only [lent]
  simp (disch := omega) only [q_368_0, b_368_0, ↓w_iconst, ↓w_aload_n_0, ↓w_getfield, ↓w_goto, ↓w_ifCond_eq, ↓w_invokevirtual_1, stw_0, stw_i, stw_l, stw_r, ofK0, ofK1, ofK2, lst1, lst2, lkill, kont_none, kont_some, Int.reduceToNat, List.length_cons, List.length_nil, Nat.reduceAdd, Nat.reduceLeDiff, Nat.zero_le, true_and, and_true, if_true, if_false, ne_eq, Int.reduceEq, Int.reduceNeg, not_false_eq_true, not_true_eq_false, ↓reduceIte, Int.reduceLT, Int.reduceLE, and_self, or_true, true_or, or_false, false_or, false_and, and_false, ah_t_w, ah_m_w, ah_n_w, lst1_0, List.tail_cons, w32_i, zbd, lst2_0, mt_1036a hM, mt_1094a hM, mt_1094b hM, mf_87 hM]
  refine c_239 hX (wb_1094 hM) (by decide) (by decide) (fun h1 e1 hX1 hO1 => ?_) (fun h1 e1 hX1 hO1 => ?_)
  rotate_left
  · simp only [e1, if_true] at hq1
    simp (disch := omega) only [b_368_0, q_368_76, b_368_76, q_368_90, b_368_90, ↓w_iconst, ↓w_aload_n_0, ↓w_iload_n_1, ↓w_istore_n_1, ↓w_getfield, ↓w_nop, ↓w_goto, ↓w_ifCond_eq, ↓w_if_icmp_ne, ↓w_ireturn0, ↓w_invokevirtual_1, stw_0, stw_i, stw_l, stw_r, ofK0, ofK1, ofK2, lst1, lst2, lkill, kont_none, kont_some, Int.reduceToNat, List.length_cons, List.length_nil, Nat.reduceAdd, Nat.reduceLeDiff, Nat.zero_le, true_and, and_true, if_true, if_false, ne_eq, Int.reduceEq, Int.reduceNeg, not_false_eq_true, not_true_eq_false, ↓reduceIte, Int.reduceLT, Int.reduceLE, and_self, or_true, true_or, or_false, false_or, false_and, and_false, ah_t_w, ah_m_w, ah_n_w, lst1_0, List.tail_cons, w32_i, zbd, lst2_0]
    exact hq1 h1 (by decide) hX1 hO1
  simp only [e1, if_false, Bool.false_eq_true] at hq0 hq1
  have hO1' : Off Wlx h h1 := Off_mono (fun r i w => Wat_lx w) hO1
  simp (disch := omega) only [b_368_0, q_368_15, b_368_15, ↓w_iconst, ↓w_aload_n_0, ↓w_getfield, ↓w_goto, ↓w_ifCond_eq, ↓w_invokevirtual_1, stw_0, stw_i, stw_l, stw_r, ofK0, ofK1, ofK2, lst1, lst2, lkill, kont_none, kont_some, Int.reduceToNat, List.length_cons, List.length_nil, Nat.reduceAdd, Nat.reduceLeDiff, Nat.zero_le, true_and, and_true, if_true, if_false, ne_eq, Int.reduceEq, Int.reduceNeg, not_false_eq_true, not_true_eq_false, ↓reduceIte, Int.reduceLT, Int.reduceLE, and_self, or_true, true_or, or_false, false_or, false_and, and_false, ah_t_w, ah_m_w, ah_n_w, lst1_0, List.tail_cons, w32_i, zbd, lst2_0, mt_1036a hX1.1, mt_1094a hX1.1, mt_1094b hX1.1, mf_87 hX1.1, mt_1095a hX1.1, mt_1095b hX1.1, mf_88 hX1.1]
  refine c_239 hX1 (wb_1095 hX1.1) (by decide) (by decide) (fun h2 e2 hX2 hO2 => ?_) (fun h2 e2 hX2 hO2 => ?_)
  rotate_left
  · rw [hs] at e2 hX2
    simp only [e2, if_true] at hq1
    simp (disch := omega) only [b_368_15, q_368_76, b_368_76, q_368_90, b_368_90, ↓w_iconst, ↓w_aload_n_0, ↓w_iload_n_1, ↓w_istore_n_1, ↓w_getfield, ↓w_nop, ↓w_goto, ↓w_ifCond_eq, ↓w_if_icmp_ne, ↓w_ireturn0, ↓w_invokevirtual_1, stw_0, stw_i, stw_l, stw_r, ofK0, ofK1, ofK2, lst1, lst2, lkill, kont_none, kont_some, Int.reduceToNat, List.length_cons, List.length_nil, Nat.reduceAdd, Nat.reduceLeDiff, Nat.zero_le, true_and, and_true, if_true, if_false, ne_eq, Int.reduceEq, Int.reduceNeg, not_false_eq_true, not_true_eq_false, ↓reduceIte, Int.reduceLT, Int.reduceLE, and_self, or_true, true_or, or_false, false_or, false_and, and_false, ah_t_w, ah_m_w, ah_n_w, lst1_0, List.tail_cons, w32_i, zbd, lst2_0]
    exact hq1 h2 (by decide) hX2 (Off_tr hO1' hO2)
  rw [hs] at e2 hX2
  simp only [e2, if_false, Bool.false_eq_true] at hq0 hq1
  have hO2' : Off Wlx h h2 := Off_tr hO1' (Off_mono (fun r i w => Wat_lx w) hO2)
  simp (disch := omega) only [b_368_15, q_368_30, b_368_30, ↓w_iconst, ↓w_aload_n_0, ↓w_getfield, ↓w_goto, ↓w_ifCond_eq, ↓w_invokevirtual_1, stw_0, stw_i, stw_l, stw_r, ofK0, ofK1, ofK2, lst1, lst2, lkill, kont_none, kont_some, Int.reduceToNat, List.length_cons, List.length_nil, Nat.reduceAdd, Nat.reduceLeDiff, Nat.zero_le, true_and, and_true, if_true, if_false, ne_eq, Int.reduceEq, Int.reduceNeg, not_false_eq_true, not_true_eq_false, ↓reduceIte, Int.reduceLT, Int.reduceLE, and_self, or_true, true_or, or_false, false_or, false_and, and_false, ah_t_w, ah_m_w, ah_n_w, lst1_0, List.tail_cons, w32_i, zbd, lst2_0, mt_1036a hX2.1, mt_1095a hX2.1, mt_1095b hX2.1, mf_88 hX2.1, mt_1096a hX2.1, mt_1096b hX2.1, mf_89 hX2.1]
  refine c_239 hX2 (wb_1096 hX2.1) (by decide) (by decide) (fun h3 e3 hX3 hO3 => ?_) (fun h3 e3 hX3 hO3 => ?_)
  rotate_left
  · rw [hs] at e3 hX3
    simp only [e3, if_true] at hq1
    simp (disch := omega) only [b_368_30, q_368_76, b_368_76, q_368_90, b_368_90, ↓w_iconst, ↓w_aload_n_0, ↓w_iload_n_1, ↓w_istore_n_1, ↓w_getfield, ↓w_nop, ↓w_goto, ↓w_ifCond_eq, ↓w_if_icmp_ne, ↓w_ireturn0, ↓w_invokevirtual_1, stw_0, stw_i, stw_l, stw_r, ofK0, ofK1, ofK2, lst1, lst2, lkill, kont_none, kont_some, Int.reduceToNat, List.length_cons, List.length_nil, Nat.reduceAdd, Nat.reduceLeDiff, Nat.zero_le, true_and, and_true, if_true, if_false, ne_eq, Int.reduceEq, Int.reduceNeg, not_false_eq_true, not_true_eq_false, ↓reduceIte, Int.reduceLT, Int.reduceLE, and_self, or_true, true_or, or_false, false_or, false_and, and_false, ah_t_w, ah_m_w, ah_n_w, lst1_0, List.tail_cons, w32_i, zbd, lst2_0]
    exact hq1 h3 (by decide) hX3 (Off_tr hO2' hO3)
  rw [hs] at e3 hX3
  simp only [e3, if_false, Bool.false_eq_true] at hq0 hq1
  have hO3' : Off Wlx h h3 := Off_tr hO2' (Off_mono (fun r i w => Wat_lx w) hO3)
  simp (disch := omega) only [b_368_30, q_368_45, b_368_45, ↓w_iconst, ↓w_aload_n_0, ↓w_getfield, ↓w_goto, ↓w_ifCond_eq, ↓w_invokevirtual_1, stw_0, stw_i, stw_l, stw_r, ofK0, ofK1, ofK2, lst1, lst2, lkill, kont_none, kont_some, Int.reduceToNat, List.length_cons, List.length_nil, Nat.reduceAdd, Nat.reduceLeDiff, Nat.zero_le, true_and, and_true, if_true, if_false, ne_eq, Int.reduceEq, Int.reduceNeg, not_false_eq_true, not_true_eq_false, ↓reduceIte, Int.reduceLT, Int.reduceLE, and_self, or_true, true_or, or_false, false_or, false_and, and_false, ah_t_w, ah_m_w, ah_n_w, lst1_0, List.tail_cons, w32_i, zbd, lst2_0, mt_1036a hX3.1, mt_1096a hX3.1, mt_1096b hX3.1, mf_89 hX3.1, mt_1097a hX3.1, mt_1097b hX3.1, mf_90 hX3.1]
  refine c_239 hX3 (wb_1097 hX3.1) (by decide) (by decide) (fun h4 e4 hX4 hO4 => ?_) (fun h4 e4 hX4 hO4 => ?_)
  rotate_left
  · rw [hs] at e4 hX4
    simp only [e4, if_true] at hq1
    simp (disch := omega) only [b_368_45, q_368_76, b_368_76, q_368_90, b_368_90, ↓w_iconst, ↓w_aload_n_0, ↓w_iload_n_1, ↓w_istore_n_1, ↓w_getfield, ↓w_nop, ↓w_goto, ↓w_ifCond_eq, ↓w_if_icmp_ne, ↓w_ireturn0, ↓w_invokevirtual_1, stw_0, stw_i, stw_l, stw_r, ofK0, ofK1, ofK2, lst1, lst2, lkill, kont_none, kont_some, Int.reduceToNat, List.length_cons, List.length_nil, Nat.reduceAdd, Nat.reduceLeDiff, Nat.zero_le, true_and, and_true, if_true, if_false, ne_eq, Int.reduceEq, Int.reduceNeg, not_false_eq_true, not_true_eq_false, ↓reduceIte, Int.reduceLT, Int.reduceLE, and_self, or_true, true_or, or_false, false_or, false_and, and_false, ah_t_w, ah_m_w, ah_n_w, lst1_0, List.tail_cons, w32_i, zbd, lst2_0]
    exact hq1 h4 (by decide) hX4 (Off_tr hO3' hO4)
  rw [hs] at e4 hX4
  simp only [e4, if_false, Bool.false_eq_true] at hq0 hq1
  have hO4' : Off Wlx h h4 := Off_tr hO3' (Off_mono (fun r i w => Wat_lx w) hO4)
  simp (disch := omega) only [b_368_45, q_368_60, b_368_60, ↓w_iconst, ↓w_aload_n_0, ↓w_getfield, ↓w_goto, ↓w_ifCond_eq, ↓w_invokevirtual_1, stw_0, stw_i, stw_l, stw_r, ofK0, ofK1, ofK2, lst1, lst2, lkill, kont_none, kont_some, Int.reduceToNat, List.length_cons, List.length_nil, Nat.reduceAdd, Nat.reduceLeDiff, Nat.zero_le, true_and, and_true, if_true, if_false, ne_eq, Int.reduceEq, Int.reduceNeg, not_false_eq_true, not_true_eq_false, ↓reduceIte, Int.reduceLT, Int.reduceLE, and_self, or_true, true_or, or_false, false_or, false_and, and_false, ah_t_w, ah_m_w, ah_n_w, lst1_0, List.tail_cons, w32_i, zbd, lst2_0, mt_1036a hX4.1, mt_1097a hX4.1, mt_1097b hX4.1, mf_90 hX4.1, mt_1098a hX4.1, mt_1098b hX4.1, mf_91 hX4.1]
  refine c_239 hX4 (wb_1098 hX4.1) (by decide) (by decide) (fun h5 e5 hX5 hO5 => ?_) (fun h5 e5 hX5 hO5 => ?_)
  rotate_left
  · rw [hs] at e5 hX5
    simp only [e5, if_true] at hq1
    simp (disch := omega) only [b_368_60, q_368_76, b_368_76, q_368_90, b_368_90, ↓w_iconst, ↓w_aload_n_0, ↓w_iload_n_1, ↓w_istore_n_1, ↓w_getfield, ↓w_nop, ↓w_goto, ↓w_ifCond_eq, ↓w_if_icmp_ne, ↓w_ireturn0, ↓w_invokevirtual_1, stw_0, stw_i, stw_l, stw_r, ofK0, ofK1, ofK2, lst1, lst2, lkill, kont_none, kont_some, Int.reduceToNat, List.length_cons, List.length_nil, Nat.reduceAdd, Nat.reduceLeDiff, Nat.zero_le, true_and, and_true, if_true, if_false, ne_eq, Int.reduceEq, Int.reduceNeg, not_false_eq_true, not_true_eq_false, ↓reduceIte, Int.reduceLT, Int.reduceLE, and_self, or_true, true_or, or_false, false_or, false_and, and_false, ah_t_w, ah_m_w, ah_n_w, lst1_0, List.tail_cons, w32_i, zbd, lst2_0]
    exact hq1 h5 (by decide) hX5 (Off_tr hO4' hO5)
  rw [hs] at e5 hX5
  simp only [e5, if_false, Bool.false_eq_true] at hq0 hq1
  have hO5' : Off Wlx h h5 := Off_tr hO4' (Off_mono (fun r i w => Wat_lx w) hO5)
  simp (disch := omega) only [b_368_60, q_368_75, b_368_75, q_368_76, b_368_76, ↓w_iconst, ↓w_aload_n_0, ↓w_iload_n_1, ↓w_istore_n_1, ↓w_getfield, ↓w_nop, ↓w_goto, ↓w_ifCond_eq, ↓w_if_icmp_ne, ↓w_invokevirtual_1, stw_0, stw_i, stw_l, stw_r, ofK0, ofK1, ofK2, lst1, lst2, lkill, kont_none, kont_some, Int.reduceToNat, List.length_cons, List.length_nil, Nat.reduceAdd, Nat.reduceLeDiff, Nat.zero_le, true_and, and_true, if_true, if_false, ne_eq, Int.reduceEq, Int.reduceNeg, not_false_eq_true, not_true_eq_false, ↓reduceIte, Int.reduceLT, Int.reduceLE, and_self, or_true, true_or, or_false, false_or, false_and, and_false, ah_t_w, ah_m_w, ah_n_w, lst1_0, List.tail_cons, w32_i, zbd, lst2_0, mt_1036a hX5.1, mt_1098a hX5.1, mt_1098b hX5.1, mf_91 hX5.1, mt_1099a hX5.1, mt_1099b hX5.1, mf_92 hX5.1]
  refine c_238 hX5 (wb_1099 hX5.1) (by decide) (by decide) (fun h6 e6 hB hO6 => ?_) (fun h6 e6 hX6 hO6 => ?_)
  · rw [hs] at e6 hB
    simp only [e6, if_false, Bool.false_eq_true] at hq0
    simp (disch := omega) only [b_368_76, q_368_90, b_368_90, ↓w_iconst, ↓w_aload_n_0, ↓w_iload_n_1, ↓w_istore_n_1, ↓w_getfield, ↓w_nop, ↓w_if_icmp_ne, ↓w_ireturn0, ↓w_invokevirtual_1, stw_0, stw_i, stw_l, stw_r, ofK0, ofK1, ofK2, lst1, lst2, lkill, kont_none, kont_some, Int.reduceToNat, List.length_cons, List.length_nil, Nat.reduceAdd, Nat.reduceLeDiff, Nat.zero_le, true_and, and_true, if_true, if_false, ne_eq, Int.reduceEq, Int.reduceNeg, not_false_eq_true, not_true_eq_false, ↓reduceIte, Int.reduceLT, Int.reduceLE, and_self, or_true, true_or, or_false, false_or, false_and, and_false, ah_t_w, ah_m_w, ah_n_w, lst1_0, List.tail_cons, w32_i, zbd, lst2_0]
    exact hq0 h6 5 trivial hB (Off_tr hO5' hO6)
  · rw [hs] at e6 hX6
    simp only [e6, if_true] at hq1
    simp (disch := omega) only [b_368_76, q_368_90, b_368_90, ↓w_iconst, ↓w_aload_n_0, ↓w_iload_n_1, ↓w_istore_n_1, ↓w_getfield, ↓w_nop, ↓w_if_icmp_ne, ↓w_ireturn0, ↓w_invokevirtual_1, stw_0, stw_i, stw_l, stw_r, ofK0, ofK1, ofK2, lst1, lst2, lkill, kont_none, kont_some, Int.reduceToNat, List.length_cons, List.length_nil, Nat.reduceAdd, Nat.reduceLeDiff, Nat.zero_le, true_and, and_true, if_true, if_false, ne_eq, Int.reduceEq, Int.reduceNeg, not_false_eq_true, not_true_eq_false, ↓reduceIte, Int.reduceLT, Int.reduceLE, and_self, or_true, true_or, or_false, false_or, false_and, and_false, ah_t_w, ah_m_w, ah_n_w, lst1_0, List.tail_cons, w32_i, zbd, lst2_0]
    exact hq1 h6 (by decide) hX6 (Off_tr hO5' hO6)
theorem zkd_r {p : Int} (h1 : p ≤ n) (e : zkd t n p ≠ -1) : 0 ≤ zkd t n p ∧ zkd t n p ≤ 5 ∧ p + zkl (zkd t n p) ≤ n ∧ 4 ≤ zkl (zkd t n p) := by
  have key : ∀ (W : List Int) (v : Int), zhw t n p W = true → 0 ≤ v ∧ v ≤ 5 → (W.length : Int) = zkl v → 4 ≤ zkl v → 0 ≤ v ∧ v ≤ 5 ∧ p + zkl v ≤ n ∧ 4 ≤ zkl v := fun W v a b c d => ⟨b.1, b.2, by have := (zhw_r h1 a).1; omega, d⟩
  unfold zkd at e ⊢
  by_cases e0 : zhw t n p [102, 105, 114, 115, 116] = true
  · simp only [e0, if_true]; exact key _ _ e0 (by decide) (by decide) (by decide)
  simp only [e0, if_false] at e ⊢
  by_cases e1 : zhw t n p [108, 97, 115, 116] = true
  · simp only [e1, if_true]; exact key _ _ e1 (by decide) (by decide) (by decide)
  simp only [e1, if_false] at e ⊢
  by_cases e2 : zhw t n p [111, 102, 116, 101, 110] = true
  · simp only [e2, if_true]; exact key _ _ e2 (by decide) (by decide) (by decide)
  simp only [e2, if_false] at e ⊢
  by_cases e3 : zhw t n p [116, 111, 116, 97, 108] = true
  · simp only [e3, if_true]; exact key _ _ e3 (by decide) (by decide) (by decide)
  simp only [e3, if_false] at e ⊢
  by_cases e4 : zhw t n p [109, 111, 115, 116] = true
  · simp only [e4, if_true]; exact key _ _ e4 (by decide) (by decide) (by decide)
  simp only [e4, if_false] at e ⊢
  by_cases e5 : zhw t n p [108, 101, 97, 115, 116] = true
  · simp only [e5, if_true]; exact key _ _ e5 (by decide) (by decide) (by decide)
  simp only [e5, if_false] at e
  exact absurd rfl e
end ASK2
