/-! ===== X: check, over, how many moves ===== -/
section X6
variable {W : Int → Int → Prop} {d : Nat} {h h' h0 : AH} {Q : QQ} {x y z m k s l w a b c v n p r o i f : Int} {S T T' : Int → Int → Int} {t nw : Int → Int}
set_option maxHeartbeats 4000000
theorem zG_xy (hx : 0 ≤ x ∧ x < T 1074 4) : zG T nw m (x + T 1074 4 * y) = zgo nw (T 1076) (T 1075) (zn T) x y m := by
  unfold zG
  rw [Int.add_mul_emod_self_left, Int.emod_eq_of_lt hx.1 hx.2, Int.add_mul_ediv_left _ _ (by omega), Int.ediv_eq_zero_of_lt hx.1 hx.2, Int.zero_add]; rfl
theorem l_222_60 (hK : XG T h) (hS : XS T nw s h) (hN : NV T nw) (c0 : 0 ≤ c) (c1 : c < T 1072 4) (hc : nw (2 + 2 * c) ≠ -1)
    (hQ0 : zc1 T nw (nw 1) (nw (2 + 2 * c) + T 1074 4 * nw (3 + 2 * c)) (zn T) 0 = false → ∀ m', wpB (d + 6) 222 111 [some (.inr (.inr s)), some (.inl c), some (.inl m')] [] h Q)
    (hQ1 : zc1 T nw (nw 1) (nw (2 + 2 * c) + T 1074 4 * nw (3 + 2 * c)) (zn T) 0 = true → Q (.inl (some (.inl 1))) h) :
    ∀ (j : Nat) (m : Int), 0 ≤ m → m + j = T 1072 4 → zc1 T nw (nw 1) (nw (2 + 2 * c) + T 1074 4 * nw (3 + 2 * c)) (zn T) 0 = zc1 T nw (nw 1) (nw (2 + 2 * c) + T 1074 4 * nw (3 + 2 * c)) j m → wpB (d + 6) 222 60 [some (.inr (.inr s)), some (.inl c), some (.inl m)] [] h Q := by
  have n8 := hK.2.2.2.1
  have epc := sp hS c0 c1
  have hcr : (0 ≤ nw (2 + 2 * c) ∧ nw (2 + 2 * c) < T 1074 4) ∧ (0 ≤ nw (3 + 2 * c) ∧ nw (3 + 2 * c) < T 1074 5) := by
    rcases hN.2.1 c c0 c1 with q | q
    · exact absurd q.1 hc
    · exact q
  unfold zpl5 at epc
  rw [if_neg hc] at epc
  intro j
  induction j with
  | zero =>
    intro m m0 m1 e
    have hlt : ¬ m < T 1072 4 := by omega
    simp (disch := omega) only [q_222_60, b_222_60, ↓w_iconst, ↓w_aload_n_0, ↓w_iload_n_1, ↓w_iload_n_2, ↓w_getfield, ↓w_iaload, ↓w_ifCond_eq, ↓w_if_icmp_eq, ↓w_if_icmp_ge, ↓w_ireturn1, ↓w_invokevirtual_0, ↓w_invokevirtual_1, ↓w_invokevirtual_2, stw_0, stw_i, stw_l, stw_r, ofK0, ofK1, ofK2, lst1, lst2, lkill, kont_none, kont_some, Int.reduceToNat, List.length_cons, List.length_nil, Nat.reduceAdd, Nat.reduceLeDiff, Nat.zero_le, true_and, and_true, if_true, if_false, ne_eq, Int.reduceEq, Int.reduceNeg, not_false_eq_true, not_true_eq_false, ↓reduceIte, Int.reduceLT, Int.reduceLE, and_self, or_true, true_or, or_false, false_or, false_and, and_false, ah_t_w, ah_m_w, ah_n_w, lst1_0, List.tail_cons, w32_i, zbd, lst2_0, xt_1a hK, s_t hK hS, s_1 hS, s_3 hK hS, s_3a hK hS, s_3b hK hS, s_11 hK hS, hlt, c_81 hK]
    exact hQ0 e m
  | succ j ih =>
    intro m m0 m1 e
    have hlt : m < T 1072 4 := by omega
    have ih := ih (m + 1) (by omega) (by omega)
    simp only [zc1] at e
    rw [zG_xy hcr.1] at e
    have cg : ∀ {d : Nat} {Q : QQ}, wpC (d + 6) 216 [.inr (.inr s), .inl m, .inl (5 * nw (3 + 2 * c) + nw (2 + 2 * c))] h Q ↔ _ := fun {d Q} => c_216 (d := d) (Q := Q) hK hS hN m0 hlt hcr.1 hcr.2
    rw [q_222_60]
    by_cases g : zs T m = nw 1
    · rw [if_neg (fun q => q.1 g)] at e
      simp (disch := omega) only [b_222_60, q_222_105, b_222_105, ↓w_iconst, ↓w_aload_n_0, ↓w_iload_n_1, ↓w_iload_n_2, ↓w_iinc_2, ↓w_getfield, ↓w_iaload, ↓w_goto, ↓w_ifCond_eq, ↓w_if_icmp_eq, ↓w_if_icmp_ge, ↓w_ireturn1, ↓w_invokevirtual_0, ↓w_invokevirtual_1, ↓w_invokevirtual_2, stw_0, stw_i, stw_l, stw_r, ofK0, ofK1, ofK2, lst1, lst2, lkill, kont_none, kont_some, Int.reduceToNat, List.length_cons, List.length_nil, Nat.reduceAdd, Nat.reduceLeDiff, Nat.zero_le, true_and, and_true, if_true, if_false, ne_eq, Int.reduceEq, Int.reduceNeg, not_false_eq_true, not_true_eq_false, ↓reduceIte, Int.reduceLT, Int.reduceLE, and_self, or_true, true_or, or_false, false_or, false_and, and_false, ah_t_w, ah_m_w, ah_n_w, lst1_0, List.tail_cons, w32_i, zbd, lst2_0, xt_1a hK, s_t hK hS, s_1 hS, s_3 hK hS, s_3a hK hS, s_3b hK hS, s_11 hK hS, hlt, c_81 hK, c_83 hK m0 hlt, ma_t hK m0 hlt, ma_2 hK m0 hlt, eq_true g]
      exact ih e
    · by_cases g2 : zgo nw (T 1076) (T 1075) (zn T) (nw (2 + 2 * c)) (nw (3 + 2 * c)) m = true
      · rw [if_pos ⟨g, g2⟩] at e
        simp (disch := omega) only [b_222_60, q_222_105, b_222_105, ↓w_iconst, ↓w_aload_n_0, ↓w_iload_n_1, ↓w_iload_n_2, ↓w_iinc_2, ↓w_getfield, ↓w_iaload, ↓w_goto, ↓w_ifCond_eq, ↓w_if_icmp_eq, ↓w_if_icmp_ge, ↓w_ireturn1, ↓w_invokevirtual_0, ↓w_invokevirtual_1, ↓w_invokevirtual_2, stw_0, stw_i, stw_l, stw_r, ofK0, ofK1, ofK2, lst1, lst2, lkill, kont_none, kont_some, Int.reduceToNat, List.length_cons, List.length_nil, Nat.reduceAdd, Nat.reduceLeDiff, Nat.zero_le, true_and, and_true, if_true, if_false, ne_eq, Int.reduceEq, Int.reduceNeg, not_false_eq_true, not_true_eq_false, ↓reduceIte, Int.reduceLT, Int.reduceLE, and_self, or_true, true_or, or_false, false_or, false_and, and_false, ah_t_w, ah_m_w, ah_n_w, lst1_0, List.tail_cons, w32_i, zbd, lst2_0, xt_1a hK, s_t hK hS, s_1 hS, s_3 hK hS, s_3a hK hS, s_3b hK hS, s_11 hK hS, hlt, c_81 hK, c_83 hK m0 hlt, ma_t hK m0 hlt, ma_2 hK m0 hlt, g, epc, cg, g2, zb]
        exact hQ1 e
      · rw [if_neg (fun q => g2 q.2)] at e
        simp (disch := omega) only [b_222_60, q_222_105, b_222_105, ↓w_iconst, ↓w_aload_n_0, ↓w_iload_n_1, ↓w_iload_n_2, ↓w_iinc_2, ↓w_getfield, ↓w_iaload, ↓w_goto, ↓w_ifCond_eq, ↓w_if_icmp_eq, ↓w_if_icmp_ge, ↓w_ireturn1, ↓w_invokevirtual_0, ↓w_invokevirtual_1, ↓w_invokevirtual_2, stw_0, stw_i, stw_l, stw_r, ofK0, ofK1, ofK2, lst1, lst2, lkill, kont_none, kont_some, Int.reduceToNat, List.length_cons, List.length_nil, Nat.reduceAdd, Nat.reduceLeDiff, Nat.zero_le, true_and, and_true, if_true, if_false, ne_eq, Int.reduceEq, Int.reduceNeg, not_false_eq_true, not_true_eq_false, ↓reduceIte, Int.reduceLT, Int.reduceLE, and_self, or_true, true_or, or_false, false_or, false_and, and_false, ah_t_w, ah_m_w, ah_n_w, lst1_0, List.tail_cons, w32_i, zbd, lst2_0, xt_1a hK, s_t hK hS, s_1 hS, s_3 hK hS, s_3a hK hS, s_3b hK hS, s_11 hK hS, hlt, c_81 hK, c_83 hK m0 hlt, ma_t hK m0 hlt, ma_2 hK m0 hlt, g, epc, cg, g2, zb, Bool.false_eq_true]
        exact ih e
theorem l_222_2 (hK : XG T h) (hS : XS T nw s h) (hN : NV T nw) : ∀ (j : Nat) (c : Int) tl, tl.length ≤ 1 → 0 ≤ c → c + j = T 1072 4 → wpB (d + 6) 222 2 (some (.inr (.inr s)) :: some (.inl c) :: tl) [] h (fun o h1 => o = .inl (some (.inl (zb (zc2 T nw (nw 1) j c)))) ∧ h1 = h) := by
  have n8 := hK.2.2.2.1
  intro j
  induction j with
  | zero =>
    intro c tl _ c0 c1
    have hlt : ¬ c < T 1072 4 := by omega
    simp (disch := omega) only [q_222_2, b_222_2, q_222_117, b_222_117, ↓w_iconst, ↓w_aload_n_0, ↓w_iload_n_1, ↓w_getfield, ↓w_iaload, ↓w_goto, ↓w_ifCond_eq, ↓w_if_icmp_ne, ↓w_if_icmp_ge, ↓w_ireturn1, ↓w_invokevirtual_0, ↓w_invokevirtual_1, stw_0, stw_i, stw_l, stw_r, ofK0, ofK1, ofK2, lst1, lst2, lkill, kont_none, kont_some, Int.reduceToNat, List.length_cons, List.length_nil, Nat.reduceAdd, Nat.reduceLeDiff, Nat.zero_le, true_and, and_true, if_true, if_false, ne_eq, Int.reduceEq, Int.reduceNeg, not_false_eq_true, not_true_eq_false, ↓reduceIte, Int.reduceLT, Int.reduceLE, and_self, or_true, true_or, or_false, false_or, false_and, and_false, ah_t_w, ah_m_w, ah_n_w, lst1_0, List.tail_cons, w32_i, zbd, lst2_0, xt_1a hK, s_t hK hS, s_1 hS, s_3 hK hS, s_3a hK hS, s_3b hK hS, s_11 hK hS, hlt, c_81 hK, zc2, zb, Bool.false_eq_true]
  | succ j ih =>
    intro c tl htl c0 c1
    have hlt : c < T 1072 4 := by omega
    have epc := sp hS c0 hlt
    have en := zpl5_n hN c0 hlt
    have hcw := km_4 hK c0 hlt
    have hz : zcw T c = 0 ∨ zcw T c = 1 := by
      have hk := (hK.2.2.2.2.2.2.2.1 c c0 (by omega)).1
      exact (hK.2.2.2.2.2.2.2.2.1 _ hk.1 hk.2).2.2.2
    have ih := fun tl q => ih (c + 1) tl q (by omega) (by omega)
    rw [q_222_2]
    simp only [zc2]
    by_cases g : zcw T c = 1
    · by_cases g2 : zs T c = nw 1
      · by_cases g3 : nw (2 + 2 * c) = -1
        · rw [if_neg (fun q => q.2.2.1 g3)]
          have epc : ah_m h (s + 1) c = -1 := by rw [epc]; exact en.2 g3
          simp (disch := omega) only [b_222_2, q_222_111, b_222_111, ↓w_iconst, ↓w_aload_n_0, ↓w_iload_n_1, ↓w_iinc_1, ↓w_getfield, ↓w_iaload, ↓w_goto, ↓w_ifCond_eq, ↓w_if_icmp_ne, ↓w_if_icmp_ge, ↓w_invokevirtual_0, ↓w_invokevirtual_1, stw_0, stw_i, stw_l, stw_r, ofK0, ofK1, ofK2, lst1, lst2, lkill, kont_none, kont_some, Int.reduceToNat, List.length_cons, List.length_nil, Nat.reduceAdd, Nat.reduceLeDiff, Nat.zero_le, true_and, and_true, if_true, if_false, ne_eq, Int.reduceEq, Int.reduceNeg, not_false_eq_true, not_true_eq_false, ↓reduceIte, Int.reduceLT, Int.reduceLE, and_self, or_true, true_or, or_false, false_or, false_and, and_false, ah_t_w, ah_m_w, ah_n_w, lst1_0, List.tail_cons, w32_i, zbd, lst2_0, xt_1a hK, s_t hK hS, s_1 hS, s_3 hK hS, s_3a hK hS, s_3b hK hS, s_11 hK hS, hlt, c_81 hK, c_82 hK c0 hlt, km_t hK c0 hlt, hcw, g, c_83 hK c0 hlt, ma_t hK c0 hlt, ma_2 hK c0 hlt, eq_true g2, epc]
          exact ih _ htl
        · have epc : ¬ ah_m h (s + 1) c = -1 := by rw [epc]; exact fun q => g3 (en.1 q)
          simp (disch := omega) only [b_222_2, q_222_58, b_222_58, ↓w_iconst, ↓w_aload_n_0, ↓w_iload_n_1, ↓w_istore_n_2, ↓w_getfield, ↓w_iaload, ↓w_nop, ↓w_goto, ↓w_ifCond_eq, ↓w_if_icmp_ne, ↓w_if_icmp_ge, ↓w_invokevirtual_0, ↓w_invokevirtual_1, stw_0, stw_i, stw_l, stw_r, ofK0, ofK1, ofK2, lst1, lst2, lkill, kont_none, kont_some, Int.reduceToNat, List.length_cons, List.length_nil, Nat.reduceAdd, Nat.reduceLeDiff, Nat.zero_le, true_and, and_true, if_true, if_false, ne_eq, Int.reduceEq, Int.reduceNeg, not_false_eq_true, not_true_eq_false, ↓reduceIte, Int.reduceLT, Int.reduceLE, and_self, or_true, true_or, or_false, false_or, false_and, and_false, ah_t_w, ah_m_w, ah_n_w, lst1_0, List.tail_cons, w32_i, zbd, lst2_0, xt_1a hK, s_t hK hS, s_1 hS, s_3 hK hS, s_3a hK hS, s_3b hK hS, s_11 hK hS, hlt, c_81 hK, c_82 hK c0 hlt, km_t hK c0 hlt, hcw, g, c_83 hK c0 hlt, ma_t hK c0 hlt, ma_2 hK c0 hlt, eq_true g2, epc]
          have etl : tl.tail = [] := by cases tl with | nil => rfl | cons a b => cases b with | nil => rfl | cons _ _ => simp at htl
          rw [etl]
          refine l_222_60 hK hS hN c0 hlt g3 (fun e m' => ?_) (fun e => ?_) (zn T) 0 (by omega) (by unfold zn; omega) rfl
          · rw [if_neg (fun q => by rw [e] at q; exact absurd q.2 Bool.false_ne_true)]
            simp (disch := omega) only [q_222_111, b_222_111, ↓w_iinc_1, ↓w_goto, stw_0, stw_i, stw_l, stw_r, ofK0, ofK1, ofK2, lst1, lst2, lkill, kont_none, kont_some, Int.reduceToNat, List.length_cons, List.length_nil, Nat.reduceAdd, Nat.reduceLeDiff, Nat.zero_le, true_and, and_true, if_true, if_false, ne_eq, Int.reduceEq, Int.reduceNeg, not_false_eq_true, not_true_eq_false, ↓reduceIte, Int.reduceLT, Int.reduceLE, and_self, or_true, true_or, or_false, false_or, false_and, and_false, ah_t_w, ah_m_w, ah_n_w, lst1_0, List.tail_cons, w32_i, zbd, lst2_0]
            exact ih _ (by simp)
          · rw [if_pos ⟨g3, e⟩]; exact ⟨rfl, rfl⟩
      · rw [if_neg (fun q => g2 q.2.1)]
        simp (disch := omega) only [b_222_2, q_222_111, b_222_111, ↓w_iconst, ↓w_aload_n_0, ↓w_iload_n_1, ↓w_iinc_1, ↓w_getfield, ↓w_iaload, ↓w_goto, ↓w_ifCond_eq, ↓w_if_icmp_ne, ↓w_if_icmp_ge, ↓w_invokevirtual_0, ↓w_invokevirtual_1, stw_0, stw_i, stw_l, stw_r, ofK0, ofK1, ofK2, lst1, lst2, lkill, kont_none, kont_some, Int.reduceToNat, List.length_cons, List.length_nil, Nat.reduceAdd, Nat.reduceLeDiff, Nat.zero_le, true_and, and_true, if_true, if_false, ne_eq, Int.reduceEq, Int.reduceNeg, not_false_eq_true, not_true_eq_false, ↓reduceIte, Int.reduceLT, Int.reduceLE, and_self, or_true, true_or, or_false, false_or, false_and, and_false, ah_t_w, ah_m_w, ah_n_w, lst1_0, List.tail_cons, w32_i, zbd, lst2_0, xt_1a hK, s_t hK hS, s_1 hS, s_3 hK hS, s_3a hK hS, s_3b hK hS, s_11 hK hS, hlt, c_81 hK, c_82 hK c0 hlt, km_t hK c0 hlt, hcw, g, c_83 hK c0 hlt, ma_t hK c0 hlt, ma_2 hK c0 hlt, g2]
        exact ih _ htl
    · rw [if_neg (fun q => g q.1)]
      have g0 : zcw T c = 0 := by omega
      simp (disch := omega) only [b_222_2, q_222_111, b_222_111, ↓w_iconst, ↓w_aload_n_0, ↓w_iload_n_1, ↓w_iinc_1, ↓w_getfield, ↓w_iaload, ↓w_goto, ↓w_ifCond_eq, ↓w_if_icmp_ne, ↓w_if_icmp_ge, ↓w_invokevirtual_0, ↓w_invokevirtual_1, stw_0, stw_i, stw_l, stw_r, ofK0, ofK1, ofK2, lst1, lst2, lkill, kont_none, kont_some, Int.reduceToNat, List.length_cons, List.length_nil, Nat.reduceAdd, Nat.reduceLeDiff, Nat.zero_le, true_and, and_true, if_true, if_false, ne_eq, Int.reduceEq, Int.reduceNeg, not_false_eq_true, not_true_eq_false, ↓reduceIte, Int.reduceLT, Int.reduceLE, and_self, or_true, true_or, or_false, false_or, false_and, and_false, ah_t_w, ah_m_w, ah_n_w, lst1_0, List.tail_cons, w32_i, zbd, lst2_0, xt_1a hK, s_t hK hS, s_1 hS, s_3 hK hS, s_3a hK hS, s_3b hK hS, s_11 hK hS, hlt, c_81 hK, c_82 hK c0 hlt, km_t hK c0 hlt, hcw, g0]
      exact ih _ htl
theorem c_222 (hK : XG T h) (hS : XS T nw s h) (hN : NV T nw) : wpC (d + 7) 222 [.inr (.inr s)] h Q ↔ Q (.inl (some (.inl (zb (zchk T nw (nw 1)))))) h := by
  have n8 := hK.2.2.2.1
  apply CT_iff; apply CT_of; rw [wpC_B]; refine ⟨⟨Nat.zero_lt_succ _, Nat.le_of_ble_eq_true rfl⟩, ?_⟩; simp only [lent]
  simp (disch := omega) only [q_222_0, b_222_0, ↓w_iconst, ↓w_istore_n_1, ↓w_nop, stw_0, stw_i, stw_l, stw_r, ofK0, ofK1, ofK2, lst1, lst2, lkill, kont_none, kont_some, Int.reduceToNat, List.length_cons, List.length_nil, Nat.reduceAdd, Nat.reduceLeDiff, Nat.zero_le, true_and, and_true, if_true, if_false, ne_eq, Int.reduceEq, Int.reduceNeg, not_false_eq_true, not_true_eq_false, ↓reduceIte, Int.reduceLT, Int.reduceLE, and_self, or_true, true_or, or_false, false_or, false_and, and_false, ah_t_w, ah_m_w, ah_n_w, lst1_0, List.tail_cons, w32_i, zbd, lst2_0]
  exact l_222_2 hK hS hN (zn T) 0 [] (by simp) (by omega) (by unfold zn; omega)
end X6
