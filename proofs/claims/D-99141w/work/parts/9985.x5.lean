/-! ===== X: counts over men and fields ===== -/
section X5
variable {W : Int → Int → Prop} {d : Nat} {h h' h0 : AH} {Q : QQ} {x y z m k s l w a b c v n p r o i f : Int} {S T T' : Int → Int → Int} {t nw : Int → Int}
set_option maxHeartbeats 4000000
theorem zpl5_n (hN : NV T nw) (m0 : 0 ≤ m) (m1 : m < T 1072 4) : zpl5 nw m = -1 ↔ nw (2 + 2 * m) = -1 := by
  unfold zpl5
  by_cases g : nw (2 + 2 * m) = -1
  · rw [if_pos g]; simp [g]
  · rw [if_neg g]
    rcases hN.2.1 m m0 m1 with q | q
    · exact absurd q.1 g
    · omega
theorem l_217 (hK : XG T h) (hS : XS T nw s h) (hN : NV T nw) : ∀ (j : Nat) (m a : Int), 0 ≤ m → m + j = T 1072 4 → (0 ≤ a ∧ a ≤ m) → wpB (d + 4) 217 4 [some (.inr (.inr s)), some (.inl z), some (.inl a), some (.inl m)] [] h (fun o h1 => o = .inl (some (.inl (zmo T nw z j m a))) ∧ h1 = h) := by
  have n8 := hK.2.2.2.1
  intro j
  induction j with
  | zero =>
    intro m a m0 m1 ha
    have hlt : ¬ m < T 1072 4 := by omega
    simp (disch := omega) only [q_217_4, b_217_4, q_217_54, b_217_54, ↓w_iconst, ↓w_aload_n_0, ↓w_iload_n_1, ↓w_iload_n_2, ↓w_iload_n_3, ↓w_getfield, ↓w_iaload, ↓w_goto, ↓w_if_icmp_eq, ↓w_if_icmp_ne, ↓w_if_icmp_ge, ↓w_ireturn0, ↓w_invokevirtual_0, ↓w_invokevirtual_1, stw_0, stw_i, stw_l, stw_r, ofK0, ofK1, ofK2, lst1, lst2, lkill, kont_none, kont_some, Int.reduceToNat, List.length_cons, List.length_nil, Nat.reduceAdd, Nat.reduceLeDiff, Nat.zero_le, true_and, and_true, if_true, if_false, ne_eq, Int.reduceEq, Int.reduceNeg, not_false_eq_true, not_true_eq_false, ↓reduceIte, Int.reduceLT, Int.reduceLE, and_self, or_true, true_or, or_false, false_or, false_and, and_false, ah_t_w, ah_m_w, ah_n_w, lst1_0, List.tail_cons, w32_i, zbd, lst2_0, xt_1a hK, s_t hK hS, s_3 hK hS, s_3a hK hS, s_3b hK hS, s_11 hK hS, hlt, c_81 hK, zmo]
  | succ j ih =>
    intro m a m0 m1 ha
    have hlt : m < T 1072 4 := by omega
    have ep := sp hS m0 hlt
    have en := zpl5_n hN m0 hlt
    rw [q_217_4]
    simp only [zmo]
    by_cases g : nw (2 + 2 * m) = -1
    · have ep : ah_m h (s + 1) m = -1 := by rw [ep]; exact en.2 g
      have ih := ih (m + 1) a (by omega) (by omega) (by omega)
      rw [if_neg (fun q => q.1 g)]
      simp (disch := omega) only [b_217_4, q_217_45, b_217_45, q_217_46, b_217_46, ↓w_iconst, ↓w_aload_n_0, ↓w_iload_n_1, ↓w_iload_n_2, ↓w_iload_n_3, ↓w_iinc_3, ↓w_istore_n_2, ↓w_iadd, ↓w_getfield, ↓w_iaload, ↓w_nop, ↓w_goto, ↓w_if_icmp_eq, ↓w_if_icmp_ne, ↓w_if_icmp_ge, ↓w_invokevirtual_0, ↓w_invokevirtual_1, stw_0, stw_i, stw_l, stw_r, ofK0, ofK1, ofK2, lst1, lst2, lkill, kont_none, kont_some, Int.reduceToNat, List.length_cons, List.length_nil, Nat.reduceAdd, Nat.reduceLeDiff, Nat.zero_le, true_and, and_true, if_true, if_false, ne_eq, Int.reduceEq, Int.reduceNeg, not_false_eq_true, not_true_eq_false, ↓reduceIte, Int.reduceLT, Int.reduceLE, and_self, or_true, true_or, or_false, false_or, false_and, and_false, ah_t_w, ah_m_w, ah_n_w, lst1_0, List.tail_cons, w32_i, zbd, lst2_0, xt_1a hK, s_t hK hS, s_3 hK hS, s_3a hK hS, s_3b hK hS, s_11 hK hS, hlt, c_81 hK, ep, Int.add_zero]
      exact ih
    · have ep : ¬ ah_m h (s + 1) m = -1 := by rw [ep]; exact fun q => g (en.1 q)
      by_cases g2 : zs T m = z
      · have ih := ih (m + 1) (a + 1) (by omega) (by omega) (by omega)
        rw [if_pos ⟨g, g2⟩]
        simp (disch := omega) only [b_217_4, q_217_45, b_217_45, q_217_46, b_217_46, ↓w_iconst, ↓w_aload_n_0, ↓w_iload_n_1, ↓w_iload_n_2, ↓w_iload_n_3, ↓w_iinc_3, ↓w_istore_n_2, ↓w_iadd, ↓w_getfield, ↓w_iaload, ↓w_nop, ↓w_goto, ↓w_if_icmp_eq, ↓w_if_icmp_ne, ↓w_if_icmp_ge, ↓w_invokevirtual_0, ↓w_invokevirtual_1, stw_0, stw_i, stw_l, stw_r, ofK0, ofK1, ofK2, lst1, lst2, lkill, kont_none, kont_some, Int.reduceToNat, List.length_cons, List.length_nil, Nat.reduceAdd, Nat.reduceLeDiff, Nat.zero_le, true_and, and_true, if_true, if_false, ne_eq, Int.reduceEq, Int.reduceNeg, not_false_eq_true, not_true_eq_false, ↓reduceIte, Int.reduceLT, Int.reduceLE, and_self, or_true, true_or, or_false, false_or, false_and, and_false, ah_t_w, ah_m_w, ah_n_w, lst1_0, List.tail_cons, w32_i, zbd, lst2_0, xt_1a hK, s_t hK hS, s_3 hK hS, s_3a hK hS, s_3b hK hS, s_11 hK hS, hlt, c_81 hK, ep, c_83 hK m0 hlt, ma_t hK m0 hlt, ma_2 hK m0 hlt, g2]
        rw [← g2] at ih
        first | exact ih | (rw [g2] at ih; exact ih)
      · have ih := ih (m + 1) a (by omega) (by omega) (by omega)
        rw [if_neg (fun q => g2 q.2)]
        simp (disch := omega) only [b_217_4, q_217_45, b_217_45, q_217_46, b_217_46, ↓w_iconst, ↓w_aload_n_0, ↓w_iload_n_1, ↓w_iload_n_2, ↓w_iload_n_3, ↓w_iinc_3, ↓w_istore_n_2, ↓w_iadd, ↓w_getfield, ↓w_iaload, ↓w_nop, ↓w_goto, ↓w_if_icmp_eq, ↓w_if_icmp_ne, ↓w_if_icmp_ge, ↓w_invokevirtual_0, ↓w_invokevirtual_1, stw_0, stw_i, stw_l, stw_r, ofK0, ofK1, ofK2, lst1, lst2, lkill, kont_none, kont_some, Int.reduceToNat, List.length_cons, List.length_nil, Nat.reduceAdd, Nat.reduceLeDiff, Nat.zero_le, true_and, and_true, if_true, if_false, ne_eq, Int.reduceEq, Int.reduceNeg, not_false_eq_true, not_true_eq_false, ↓reduceIte, Int.reduceLT, Int.reduceLE, and_self, or_true, true_or, or_false, false_or, false_and, and_false, ah_t_w, ah_m_w, ah_n_w, lst1_0, List.tail_cons, w32_i, zbd, lst2_0, xt_1a hK, s_t hK hS, s_3 hK hS, s_3a hK hS, s_3b hK hS, s_11 hK hS, hlt, c_81 hK, ep, c_83 hK m0 hlt, ma_t hK m0 hlt, ma_2 hK m0 hlt, g2, Int.add_zero]
        exact ih
theorem c_217 (hK : XG T h) (hS : XS T nw s h) (hN : NV T nw) : wpC (d + 5) 217 [.inr (.inr s), .inl z] h Q ↔ Q (.inl (some (.inl (zmen T nw z)))) h := by
  have n8 := hK.2.2.2.1
  apply CT_iff; apply CT_of; rw [wpC_B]; refine ⟨⟨Nat.zero_lt_succ _, Nat.le_of_ble_eq_true rfl⟩, ?_⟩; simp only [lent]
  simp (disch := omega) only [q_217_0, b_217_0, ↓w_iconst, ↓w_istore_n_2, ↓w_istore_n_3, ↓w_nop, stw_0, stw_i, stw_l, stw_r, ofK0, ofK1, ofK2, lst1, lst2, lkill, kont_none, kont_some, Int.reduceToNat, List.length_cons, List.length_nil, Nat.reduceAdd, Nat.reduceLeDiff, Nat.zero_le, true_and, and_true, if_true, if_false, ne_eq, Int.reduceEq, Int.reduceNeg, not_false_eq_true, not_true_eq_false, ↓reduceIte, Int.reduceLT, Int.reduceLE, and_self, or_true, true_or, or_false, false_or, false_and, and_false, ah_t_w, ah_m_w, ah_n_w, lst1_0, List.tail_cons, w32_i, zbd, lst2_0]
  exact l_217 hK hS hN (zn T) 0 0 (by omega) (by unfold zn; omega) (by omega)
theorem l_218 (hK : XG T h) (hS : XS T nw s h) (hF : FV nw) : ∀ (j : Nat) (f a : Int), 0 ≤ f → f + j = T 1072 5 → (0 ≤ a ∧ a ≤ 999 * f) → wpB (d + 2) 218 4 [some (.inr (.inr s)), some (.inl a), some (.inl f)] [] h (fun o h1 => o = .inl (some (.inl (zbo nw j f a))) ∧ h1 = h) := by
  have n6 := hK.2.2.2.2.1
  intro j
  induction j with
  | zero =>
    intro m a m0 m1 ha
    have hlt : ¬ m < T 1072 5 := by omega
    simp (disch := omega) only [q_218_4, b_218_4, q_218_30, b_218_30, ↓w_aload_n_0, ↓w_iload_n_1, ↓w_iload_n_2, ↓w_iinc_2, ↓w_istore_n_1, ↓w_iadd, ↓w_getfield, ↓w_iaload, ↓w_goto, ↓w_if_icmp_ge, ↓w_ireturn0, ↓w_invokevirtual_0, stw_0, stw_i, stw_l, stw_r, ofK0, ofK1, ofK2, lst1, lst2, lkill, kont_none, kont_some, Int.reduceToNat, List.length_cons, List.length_nil, Nat.reduceAdd, Nat.reduceLeDiff, Nat.zero_le, true_and, and_true, if_true, if_false, ne_eq, Int.reduceEq, Int.reduceNeg, not_false_eq_true, not_true_eq_false, ↓reduceIte, Int.reduceLT, Int.reduceLE, and_self, or_true, true_or, or_false, false_or, false_and, and_false, ah_t_w, ah_m_w, ah_n_w, lst1_0, List.tail_cons, w32_i, zbd, lst2_0, xt_1a hK, s_t hK hS, s_5 hK hS, s_5a hK hS, s_5b hK hS, s_11 hK hS, hlt, c_95 hK, zbo]
  | succ j ih =>
    intro m a m0 m1 ha
    have hlt : m < T 1072 5 := by omega
    have ep := sb hS m0 hlt
    have hb := hF.2.1 m m0 (by omega)
    have ih := ih (m + 1) (a + nw (18 + m)) (by omega) (by omega) (by omega)
    rw [q_218_4]
    simp only [zbo]
    simp (disch := omega) only [b_218_4, ↓w_aload_n_0, ↓w_iload_n_1, ↓w_iload_n_2, ↓w_iinc_2, ↓w_istore_n_1, ↓w_iadd, ↓w_getfield, ↓w_iaload, ↓w_goto, ↓w_if_icmp_ge, ↓w_invokevirtual_0, stw_0, stw_i, stw_l, stw_r, ofK0, ofK1, ofK2, lst1, lst2, lkill, kont_none, kont_some, Int.reduceToNat, List.length_cons, List.length_nil, Nat.reduceAdd, Nat.reduceLeDiff, Nat.zero_le, true_and, and_true, if_true, if_false, ne_eq, Int.reduceEq, Int.reduceNeg, not_false_eq_true, not_true_eq_false, ↓reduceIte, Int.reduceLT, Int.reduceLE, and_self, or_true, true_or, or_false, false_or, false_and, and_false, ah_t_w, ah_m_w, ah_n_w, lst1_0, List.tail_cons, w32_i, zbd, lst2_0, xt_1a hK, s_t hK hS, s_5 hK hS, s_5a hK hS, s_5b hK hS, s_11 hK hS, hlt, c_95 hK, ep]
    exact ih
theorem c_218 (hK : XG T h) (hS : XS T nw s h) (hF : FV nw) : wpC (d + 3) 218 [.inr (.inr s)] h Q ↔ Q (.inl (some (.inl (zbea T nw)))) h := by
  have n6 := hK.2.2.2.2.1
  apply CT_iff; apply CT_of; rw [wpC_B]; refine ⟨⟨Nat.zero_lt_succ _, Nat.le_of_ble_eq_true rfl⟩, ?_⟩; simp only [lent]
  simp (disch := omega) only [q_218_0, b_218_0, ↓w_iconst, ↓w_istore_n_1, ↓w_istore_n_2, ↓w_nop, stw_0, stw_i, stw_l, stw_r, ofK0, ofK1, ofK2, lst1, lst2, lkill, kont_none, kont_some, Int.reduceToNat, List.length_cons, List.length_nil, Nat.reduceAdd, Nat.reduceLeDiff, Nat.zero_le, true_and, and_true, if_true, if_false, ne_eq, Int.reduceEq, Int.reduceNeg, not_false_eq_true, not_true_eq_false, ↓reduceIte, Int.reduceLT, Int.reduceLE, and_self, or_true, true_or, or_false, false_or, false_and, and_false, ah_t_w, ah_m_w, ah_n_w, lst1_0, List.tail_cons, w32_i, zbd, lst2_0]
  exact l_218 hK hS hF (T 1072 5).toNat 0 0 (by omega) (by omega) (by omega)
theorem xwo_b (hK : XG T h) (m0 : 0 ≤ m) (m1 : m < T 1072 4) : 0 ≤ zwo T m ∧ zwo T m ≤ 99 := by
  have n8 := hK.2.2.2.1
  have hk := (hK.2.2.2.2.2.2.2.1 m m0 (by omega)).1
  exact (hK.2.2.2.2.2.2.2.2.1 _ hk.1 hk.2).2.2.1
theorem l_223 (hK : XG T h) (hS : XS T nw s h) (hN : NV T nw) : ∀ (j : Nat) (m a : Int), 0 ≤ m → m + j = T 1072 4 → (-100 * m ≤ a ∧ a ≤ 100 * m) → wpB (d + 5) 223 4 [some (.inr (.inr s)), some (.inl z), some (.inl a), some (.inl m)] [] h (fun o h1 => o = .inl (some (.inl (zbl T nw z j m a))) ∧ h1 = h) := by
  have n8 := hK.2.2.2.1
  intro j
  induction j with
  | zero =>
    intro m a m0 m1 ha
    have hlt : ¬ m < T 1072 4 := by omega
    simp (disch := omega) only [q_223_4, b_223_4, q_223_79, b_223_79, ↓w_iconst, ↓w_aload_n_0, ↓w_iload_n_2, ↓w_iload_n_3, ↓w_getfield, ↓w_iaload, ↓w_goto, ↓w_if_icmp_ne, ↓w_if_icmp_ge, ↓w_ireturn0, ↓w_invokevirtual_0, stw_0, stw_i, stw_l, stw_r, ofK0, ofK1, ofK2, lst1, lst2, lkill, kont_none, kont_some, Int.reduceToNat, List.length_cons, List.length_nil, Nat.reduceAdd, Nat.reduceLeDiff, Nat.zero_le, true_and, and_true, if_true, if_false, ne_eq, Int.reduceEq, Int.reduceNeg, not_false_eq_true, not_true_eq_false, ↓reduceIte, Int.reduceLT, Int.reduceLE, and_self, or_true, true_or, or_false, false_or, false_and, and_false, ah_t_w, ah_m_w, ah_n_w, lst1_0, List.tail_cons, w32_i, zbd, lst2_0, xt_1a hK, s_t hK hS, s_3 hK hS, s_3a hK hS, s_3b hK hS, s_11 hK hS, hlt, c_81 hK, zbl]
  | succ j ih =>
    intro m a m0 m1 ha
    have hlt : m < T 1072 4 := by omega
    have ep := sp hS m0 hlt
    have en := zpl5_n hN m0 hlt
    have hw := xwo_b hK m0 hlt
    rw [q_223_4]
    simp only [zbl]
    by_cases g : nw (2 + 2 * m) = -1
    · have ep : ah_m h (s + 1) m = -1 := by rw [ep]; exact en.2 g
      have ih := ih (m + 1) a (by omega) (by omega) (by omega)
      rw [if_pos g]
      simp (disch := omega) only [b_223_4, q_223_71, b_223_71, ↓w_iconst, ↓w_aload_n_0, ↓w_iload_n_2, ↓w_iload_n_3, ↓w_iinc_3, ↓w_istore_n_2, ↓w_iadd, ↓w_getfield, ↓w_iaload, ↓w_goto, ↓w_if_icmp_ne, ↓w_if_icmp_ge, ↓w_invokevirtual_0, stw_0, stw_i, stw_l, stw_r, ofK0, ofK1, ofK2, lst1, lst2, lkill, kont_none, kont_some, Int.reduceToNat, List.length_cons, List.length_nil, Nat.reduceAdd, Nat.reduceLeDiff, Nat.zero_le, true_and, and_true, if_true, if_false, ne_eq, Int.reduceEq, Int.reduceNeg, not_false_eq_true, not_true_eq_false, ↓reduceIte, Int.reduceLT, Int.reduceLE, and_self, or_true, true_or, or_false, false_or, false_and, and_false, ah_t_w, ah_m_w, ah_n_w, lst1_0, List.tail_cons, w32_i, zbd, lst2_0, xt_1a hK, s_t hK hS, s_3 hK hS, s_3a hK hS, s_3b hK hS, s_11 hK hS, hlt, c_81 hK, ep, Int.add_zero]
      exact ih
    · have ep : ¬ ah_m h (s + 1) m = -1 := by rw [ep]; exact fun q => g (en.1 q)
      rw [if_neg g]
      by_cases g2 : zs T m = z
      · have ih := ih (m + 1) (a + zwo T m) (by omega) (by omega) (by omega)
        rw [if_pos g2]
        simp (disch := omega) only [b_223_4, q_223_30, b_223_30, q_223_71, b_223_71, ↓w_iconst, ↓w_aload_n_0, ↓w_iload_n_1, ↓w_iload_n_2, ↓w_iload_n_3, ↓w_iinc_3, ↓w_istore_n_2, ↓w_iadd, ↓w_getfield, ↓w_iaload, ↓w_goto, ↓w_if_icmp_ne, ↓w_if_icmp_ge, ↓w_invokevirtual_0, ↓w_invokevirtual_1, stw_0, stw_i, stw_l, stw_r, ofK0, ofK1, ofK2, lst1, lst2, lkill, kont_none, kont_some, Int.reduceToNat, List.length_cons, List.length_nil, Nat.reduceAdd, Nat.reduceLeDiff, Nat.zero_le, true_and, and_true, if_true, if_false, ne_eq, Int.reduceEq, Int.reduceNeg, not_false_eq_true, not_true_eq_false, ↓reduceIte, Int.reduceLT, Int.reduceLE, and_self, or_true, true_or, or_false, false_or, false_and, and_false, ah_t_w, ah_m_w, ah_n_w, lst1_0, List.tail_cons, w32_i, zbd, lst2_0, xt_1a hK, s_t hK hS, s_3 hK hS, s_3a hK hS, s_3b hK hS, s_11 hK hS, hlt, c_81 hK, ep, c_83 hK m0 hlt, ma_t hK m0 hlt, ma_2 hK m0 hlt, eq_true g2, c_82 hK m0 hlt, km_t hK m0 hlt, km_3 hK m0 hlt]
        exact ih
      · have ih := ih (m + 1) (a + -zwo T m) (by omega) (by omega) (by omega)
        rw [if_neg g2]
        simp (disch := omega) only [b_223_4, q_223_30, b_223_30, q_223_59, b_223_59, q_223_71, b_223_71, ↓w_iconst, ↓w_aload_n_0, ↓w_iload_n_1, ↓w_iload_n_2, ↓w_iload_n_3, ↓w_iinc_3, ↓w_istore_n_2, ↓w_iadd, ↓w_ineg, ↓w_getfield, ↓w_iaload, ↓w_nop, ↓w_goto, ↓w_if_icmp_ne, ↓w_if_icmp_ge, ↓w_invokevirtual_0, ↓w_invokevirtual_1, stw_0, stw_i, stw_l, stw_r, ofK0, ofK1, ofK2, lst1, lst2, lkill, kont_none, kont_some, Int.reduceToNat, List.length_cons, List.length_nil, Nat.reduceAdd, Nat.reduceLeDiff, Nat.zero_le, true_and, and_true, if_true, if_false, ne_eq, Int.reduceEq, Int.reduceNeg, not_false_eq_true, not_true_eq_false, ↓reduceIte, Int.reduceLT, Int.reduceLE, and_self, or_true, true_or, or_false, false_or, false_and, and_false, ah_t_w, ah_m_w, ah_n_w, lst1_0, List.tail_cons, w32_i, zbd, lst2_0, xt_1a hK, s_t hK hS, s_3 hK hS, s_3a hK hS, s_3b hK hS, s_11 hK hS, hlt, c_81 hK, ep, c_83 hK m0 hlt, ma_t hK m0 hlt, ma_2 hK m0 hlt, g2, c_82 hK m0 hlt, km_t hK m0 hlt, km_3 hK m0 hlt]
        exact ih
theorem c_223 (hK : XG T h) (hS : XS T nw s h) (hN : NV T nw) : wpC (d + 6) 223 [.inr (.inr s), .inl z] h Q ↔ Q (.inl (some (.inl (zbal T nw z)))) h := by
  have n8 := hK.2.2.2.1
  apply CT_iff; apply CT_of; rw [wpC_B]; refine ⟨⟨Nat.zero_lt_succ _, Nat.le_of_ble_eq_true rfl⟩, ?_⟩; simp only [lent]
  simp (disch := omega) only [q_223_0, b_223_0, ↓w_iconst, ↓w_istore_n_2, ↓w_istore_n_3, ↓w_nop, stw_0, stw_i, stw_l, stw_r, ofK0, ofK1, ofK2, lst1, lst2, lkill, kont_none, kont_some, Int.reduceToNat, List.length_cons, List.length_nil, Nat.reduceAdd, Nat.reduceLeDiff, Nat.zero_le, true_and, and_true, if_true, if_false, ne_eq, Int.reduceEq, Int.reduceNeg, not_false_eq_true, not_true_eq_false, ↓reduceIte, Int.reduceLT, Int.reduceLE, and_self, or_true, true_or, or_false, false_or, false_and, and_false, ah_t_w, ah_m_w, ah_n_w, lst1_0, List.tail_cons, w32_i, zbd, lst2_0]
  exact l_223 hK hS hN (zn T) 0 0 (by omega) (by unfold zn; omega) (by omega)
end X5
