/-! ===== M: loops over men ===== -/
/-- the first man from i on that stands at a place, k men looked at -/
def zman (nw : Int → Int) (x y : Int) : Nat → Int → Int
  | 0, _ => -1
  | k + 1, i => if nw (2 + 2 * i) = x ∧ nw (3 + 2 * i) = y then i else zman nw x y k (i + 1)
section M1
variable {d : Nat} {h : AH} {Q : QQ} {x y z mm : Int}
set_option maxHeartbeats 1000000
theorem l_296 (hM : MI h) (hV : MV h) : ∀ (k : Nat) (i : Int), 0 ≤ i → i + k = ah_m h 1072 4 → wpB (d + 1) 296 2 [some (.inr (.inr 1036)), some (.inl x), some (.inl y), some (.inl i)] [] h (fun o h1 => o = .inl (some (.inl (zman (ah_m h 1083) x y k i))) ∧ h1 = h) := by
  have h8 := hV.2.1
  intro k
  induction k with
  | zero =>
    intro i h0 h1
    have hlt : ¬ i < ah_m h 1072 4 := by omega
    simp (disch := omega) only [q_296_0, b_296_0, q_296_2, b_296_2, q_296_36, b_296_36, ↓w_iconst, ↓w_aload_n_0, ↓w_iload_n_1, ↓w_iload_n_2, ↓w_iload_n_3, ↓w_istore_n_3, ↓w_nop, ↓w_if_icmp_ne, ↓w_if_icmp_ge, ↓w_ireturn0, ↓w_invokevirtual_0, ↓w_invokevirtual_1, stw_0, stw_i, stw_l, stw_r, ofK0, ofK1, ofK2, lst1, lst2, lkill, kont_none, kont_some, Int.reduceToNat, List.length_cons, List.length_nil, Nat.reduceAdd, Nat.reduceLeDiff, Nat.zero_le, true_and, and_true, if_true, if_false, ne_eq, Int.reduceEq, Int.reduceNeg, not_false_eq_true, not_true_eq_false, ↓reduceIte, Int.reduceLT, Int.reduceLE, and_self, or_true, true_or, or_false, false_or, false_and, and_false, ah_t_w, ah_m_w, ah_n_w, mt_1036a hM, k_281 hM, zman, hlt]
  | succ k ih =>
    intro i h0 h1
    have ih := ih (i + 1) (by omega) (by omega)
    have hlt : i < ah_m h 1072 4 := by omega
    rw [q_296_2]
    by_cases e1 : ah_m h 1083 (2 + 2 * i) = x
    · by_cases e2 : ah_m h 1083 (3 + 2 * i) = y
      · simp (disch := omega) only [q_296_0, b_296_0, q_296_30, b_296_30, q_296_36, b_296_36, ↓w_iconst, ↓w_aload_n_0, ↓w_iload_n_1, ↓w_iload_n_2, ↓w_iload_n_3, ↓w_iinc_3, ↓w_istore_n_3, ↓w_nop, ↓w_goto, ↓w_if_icmp_ne, ↓w_if_icmp_ge, ↓w_ireturn0, ↓w_invokevirtual_0, ↓w_invokevirtual_1, stw_0, stw_i, stw_l, stw_r, ofK0, ofK1, ofK2, lst1, lst2, lkill, kont_none, kont_some, Int.reduceToNat, List.length_cons, List.length_nil, Nat.reduceAdd, Nat.reduceLeDiff, Nat.zero_le, true_and, and_true, if_true, if_false, ne_eq, Int.reduceEq, Int.reduceNeg, not_false_eq_true, not_true_eq_false, ↓reduceIte, Int.reduceLT, Int.reduceLE, and_self, or_true, true_or, or_false, false_or, false_and, and_false, ah_t_w, ah_m_w, ah_n_w, mt_1036a hM, b_296_2, k_281 hM, k_285 hM, k_292 hM, w32_i, zman, hlt, e1, e2]
      · simp (disch := omega) only [q_296_0, b_296_0, q_296_30, b_296_30, q_296_36, b_296_36, ↓w_iconst, ↓w_aload_n_0, ↓w_iload_n_1, ↓w_iload_n_2, ↓w_iload_n_3, ↓w_iinc_3, ↓w_istore_n_3, ↓w_nop, ↓w_goto, ↓w_if_icmp_ne, ↓w_if_icmp_ge, ↓w_ireturn0, ↓w_invokevirtual_0, ↓w_invokevirtual_1, stw_0, stw_i, stw_l, stw_r, ofK0, ofK1, ofK2, lst1, lst2, lkill, kont_none, kont_some, Int.reduceToNat, List.length_cons, List.length_nil, Nat.reduceAdd, Nat.reduceLeDiff, Nat.zero_le, true_and, and_true, if_true, if_false, ne_eq, Int.reduceEq, Int.reduceNeg, not_false_eq_true, not_true_eq_false, ↓reduceIte, Int.reduceLT, Int.reduceLE, and_self, or_true, true_or, or_false, false_or, false_and, and_false, ah_t_w, ah_m_w, ah_n_w, mt_1036a hM, b_296_2, k_281 hM, k_285 hM, k_292 hM, w32_i, zman, hlt, e1, e2]
        exact ih
    · simp (disch := omega) only [q_296_0, b_296_0, q_296_30, b_296_30, q_296_36, b_296_36, ↓w_iconst, ↓w_aload_n_0, ↓w_iload_n_1, ↓w_iload_n_2, ↓w_iload_n_3, ↓w_iinc_3, ↓w_istore_n_3, ↓w_nop, ↓w_goto, ↓w_if_icmp_ne, ↓w_if_icmp_ge, ↓w_ireturn0, ↓w_invokevirtual_0, ↓w_invokevirtual_1, stw_0, stw_i, stw_l, stw_r, ofK0, ofK1, ofK2, lst1, lst2, lkill, kont_none, kont_some, Int.reduceToNat, List.length_cons, List.length_nil, Nat.reduceAdd, Nat.reduceLeDiff, Nat.zero_le, true_and, and_true, if_true, if_false, ne_eq, Int.reduceEq, Int.reduceNeg, not_false_eq_true, not_true_eq_false, ↓reduceIte, Int.reduceLT, Int.reduceLE, and_self, or_true, true_or, or_false, false_or, false_and, and_false, ah_t_w, ah_m_w, ah_n_w, mt_1036a hM, b_296_2, k_281 hM, k_285 hM, k_292 hM, w32_i, zman, hlt, e1]
      exact ih
theorem k_296 (hM : MI h) (hV : MV h) : wpC (d + 2) 296 [.inr (.inr 1036), .inl x, .inl y] h Q ↔ Q (.inl (some (.inl (zman (ah_m h 1083) x y (ah_m h 1072 4).toNat 0)))) h := by
  have h8 := hV.2.1
  apply CT_iff; apply CT_of; rw [wpC_B]; refine ⟨⟨Nat.zero_lt_succ _, Nat.le_of_ble_eq_true rfl⟩, ?_⟩; simp only [lent]
  simp (disch := omega) only [q_296_0, b_296_0, ↓w_iconst, ↓w_istore_n_3, ↓w_nop, stw_0, stw_i, stw_l, stw_r, ofK0, ofK1, ofK2, lst1, lst2, lkill, kont_none, kont_some, Int.reduceToNat, List.length_cons, List.length_nil, Nat.reduceAdd, Nat.reduceLeDiff, Nat.zero_le, true_and, and_true, if_true, if_false, ne_eq, Int.reduceEq, Int.reduceNeg, not_false_eq_true, not_true_eq_false, ↓reduceIte, Int.reduceLT, Int.reduceLE, and_self, or_true, true_or, or_false, false_or, false_and, and_false, ah_t_w, ah_m_w, ah_n_w]
  exact l_296 hM hV _ 0 (by omega) (by omega)
end M1
