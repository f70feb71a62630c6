/-! ===== M: what is read off (contracts) ===== -/
def zabs (z : Int) : Int := if z < 0 then -z else z
def zsgn (z : Int) : Int := if z < 0 then -1 else if 0 < z then 1 else 0
def zoff (x y a b : Int) : Int := if zabs (y - b) < zabs (x - a) then zabs (x - a) else zabs (y - b)
/-- what M's standing rows obey: how many there are; kinds of men; columns, rows; where men stand -/
def MV (h : AH) : Prop := (0 ≤ ah_m h 1072 3 ∧ ah_m h 1072 3 ≤ 5) ∧ (0 ≤ ah_m h 1072 4 ∧ ah_m h 1072 4 ≤ 8) ∧ (0 ≤ ah_m h 1072 5 ∧ ah_m h 1072 5 ≤ 6) ∧ (0 ≤ ah_m h 1074 4 ∧ ah_m h 1074 4 ≤ 5) ∧ (0 ≤ ah_m h 1074 5 ∧ ah_m h 1074 5 ≤ 5) ∧ (∀ m, 0 ≤ m → m < 8 → 0 ≤ ah_m h 1076 (16 + 2 * m) ∧ ah_m h 1076 (16 + 2 * m) < 5) ∧ (∀ m, 0 ≤ m → m < 8 → (-1 ≤ ah_m h 1083 (2 + 2 * m) ∧ ah_m h 1083 (2 + 2 * m) < 5) ∧ (-1 ≤ ah_m h 1083 (3 + 2 * m) ∧ ah_m h 1083 (3 + 2 * m) < 5))
section M0
variable {d : Nat} {h : AH} {Q : QQ} {x y z mm : Int}
set_option maxHeartbeats 1000000
theorem k_281 (hM : MI h) : wpC (d + 1) 281 [.inr (.inr 1036)] h Q ↔ Q (.inl (some (.inl (ah_m h 1072 4)))) h := by
  apply CT_iff; apply CT_of; rw [wpC_B]; refine ⟨⟨Nat.zero_lt_succ _, Nat.le_of_ble_eq_true rfl⟩, ?_⟩; simp only [lent]
  simp (disch := omega) only [q_281_0, b_281_0, ↓w_iconst, ↓w_aload_n_0, ↓w_getfield, ↓w_iaload, ↓w_ireturn0, stw_0, stw_i, stw_l, stw_r, ofK0, ofK1, ofK2, lst1, lst2, lkill, kont_none, kont_some, Int.reduceToNat, List.length_cons, List.length_nil, Nat.reduceAdd, Nat.reduceLeDiff, Nat.zero_le, true_and, and_true, if_true, if_false, ne_eq, Int.reduceEq, Int.reduceNeg, not_false_eq_true, not_true_eq_false, ↓reduceIte, Int.reduceLT, Int.reduceLE, and_self, or_true, true_or, or_false, false_or, false_and, and_false, ah_t_w, ah_m_w, ah_n_w, mt_1036a hM, mt_1072a hM, mt_1072b hM, mf_45 hM]
theorem k_299 (hM : MI h) : wpC (d + 1) 299 [.inr (.inr 1036)] h Q ↔ Q (.inl (some (.inl (ah_m h 1072 5)))) h := by
  apply CT_iff; apply CT_of; rw [wpC_B]; refine ⟨⟨Nat.zero_lt_succ _, Nat.le_of_ble_eq_true rfl⟩, ?_⟩; simp only [lent]
  simp (disch := omega) only [q_299_0, b_299_0, ↓w_iconst, ↓w_aload_n_0, ↓w_getfield, ↓w_iaload, ↓w_ireturn0, stw_0, stw_i, stw_l, stw_r, ofK0, ofK1, ofK2, lst1, lst2, lkill, kont_none, kont_some, Int.reduceToNat, List.length_cons, List.length_nil, Nat.reduceAdd, Nat.reduceLeDiff, Nat.zero_le, true_and, and_true, if_true, if_false, ne_eq, Int.reduceEq, Int.reduceNeg, not_false_eq_true, not_true_eq_false, ↓reduceIte, Int.reduceLT, Int.reduceLE, and_self, or_true, true_or, or_false, false_or, false_and, and_false, ah_t_w, ah_m_w, ah_n_w, mt_1036a hM, mt_1072a hM, mt_1072b hM, mf_45 hM]
theorem k_285 (hM : MI h) (h1 : 0 ≤ mm) (h2 : mm < 8) : wpC (d + 1) 285 [.inr (.inr 1036), .inl mm] h Q ↔ Q (.inl (some (.inl (ah_m h 1083 (2 + 2 * mm))))) h := by
  apply CT_iff; apply CT_of; rw [wpC_B]; refine ⟨⟨Nat.zero_lt_succ _, Nat.le_of_ble_eq_true rfl⟩, ?_⟩; simp only [lent]
  simp (disch := omega) only [q_285_0, b_285_0, ↓w_iconst, ↓w_aload_n_0, ↓w_iload_n_1, ↓w_iadd, ↓w_imul, ↓w_getfield, ↓w_iaload, ↓w_ireturn0, stw_0, stw_i, stw_l, stw_r, ofK0, ofK1, ofK2, lst1, lst2, lkill, kont_none, kont_some, Int.reduceToNat, List.length_cons, List.length_nil, Nat.reduceAdd, Nat.reduceLeDiff, Nat.zero_le, true_and, and_true, if_true, if_false, ne_eq, Int.reduceEq, Int.reduceNeg, not_false_eq_true, not_true_eq_false, ↓reduceIte, Int.reduceLT, Int.reduceLE, and_self, or_true, true_or, or_false, false_or, false_and, and_false, ah_t_w, ah_m_w, ah_n_w, mt_1036a hM, mt_1083a hM, mt_1083b hM, mf_62 hM, w32_i]
  omega
theorem k_292 (hM : MI h) (h1 : 0 ≤ mm) (h2 : mm < 8) : wpC (d + 1) 292 [.inr (.inr 1036), .inl mm] h Q ↔ Q (.inl (some (.inl (ah_m h 1083 (3 + 2 * mm))))) h := by
  apply CT_iff; apply CT_of; rw [wpC_B]; refine ⟨⟨Nat.zero_lt_succ _, Nat.le_of_ble_eq_true rfl⟩, ?_⟩; simp only [lent]
  simp (disch := omega) only [q_292_0, b_292_0, ↓w_iconst, ↓w_aload_n_0, ↓w_iload_n_1, ↓w_iadd, ↓w_imul, ↓w_getfield, ↓w_iaload, ↓w_ireturn0, stw_0, stw_i, stw_l, stw_r, ofK0, ofK1, ofK2, lst1, lst2, lkill, kont_none, kont_some, Int.reduceToNat, List.length_cons, List.length_nil, Nat.reduceAdd, Nat.reduceLeDiff, Nat.zero_le, true_and, and_true, if_true, if_false, ne_eq, Int.reduceEq, Int.reduceNeg, not_false_eq_true, not_true_eq_false, ↓reduceIte, Int.reduceLT, Int.reduceLE, and_self, or_true, true_or, or_false, false_or, false_and, and_false, ah_t_w, ah_m_w, ah_n_w, mt_1036a hM, mt_1083a hM, mt_1083b hM, mf_62 hM, w32_i]
  have e : 2 + 2 * mm + 1 = 3 + 2 * mm := by omega
  rw [e]
  exact ⟨⟨by omega, by omega⟩, rfl⟩
theorem k_284 (hM : MI h) (h1 : 0 ≤ mm) (h2 : mm < 8) : wpC (d + 2) 284 [.inr (.inr 1036), .inl mm] h Q ↔ Q (.inl (some (.inl (if ah_m h 1083 (2 + 2 * mm) = -1 then 1 else 0)))) h := by
  apply CT_iff; apply CT_of; rw [wpC_B]; refine ⟨⟨Nat.zero_lt_succ _, Nat.le_of_ble_eq_true rfl⟩, ?_⟩; simp only [lent]
  simp (disch := omega) only [q_284_0, b_284_0, q_284_13, b_284_13, q_284_14, b_284_14, ↓w_iconst, ↓w_aload_n_0, ↓w_iload_n_1, ↓w_nop, ↓w_goto, ↓w_if_icmp_ne, ↓w_ireturn1, ↓w_invokevirtual_1, stw_0, stw_i, stw_l, stw_r, ofK0, ofK1, ofK2, lst1, lst2, lkill, kont_none, kont_some, Int.reduceToNat, List.length_cons, List.length_nil, Nat.reduceAdd, Nat.reduceLeDiff, Nat.zero_le, true_and, and_true, if_true, if_false, ne_eq, Int.reduceEq, Int.reduceNeg, not_false_eq_true, not_true_eq_false, ↓reduceIte, Int.reduceLT, Int.reduceLE, and_self, or_true, true_or, or_false, false_or, false_and, and_false, ah_t_w, ah_m_w, ah_n_w, mt_1036a hM, k_285 hM]
  split <;> simp
theorem k_283 (hM : MI h) (h1 : 0 ≤ mm) (h2 : mm < 8) : wpC (d + 1) 283 [.inr (.inr 1036), .inl mm] h Q ↔ Q (.inl (some (.inl (ah_m h 1076 (16 + 2 * mm))))) h := by
  apply CT_iff; apply CT_of; rw [wpC_B]; refine ⟨⟨Nat.zero_lt_succ _, Nat.le_of_ble_eq_true rfl⟩, ?_⟩; simp only [lent]
  simp (disch := omega) only [q_283_0, b_283_0, ↓w_iconst, ↓w_bipush, ↓w_aload_n_0, ↓w_iload_n_1, ↓w_iadd, ↓w_imul, ↓w_getfield, ↓w_iaload, ↓w_ireturn0, stw_0, stw_i, stw_l, stw_r, ofK0, ofK1, ofK2, lst1, lst2, lkill, kont_none, kont_some, Int.reduceToNat, List.length_cons, List.length_nil, Nat.reduceAdd, Nat.reduceLeDiff, Nat.zero_le, true_and, and_true, if_true, if_false, ne_eq, Int.reduceEq, Int.reduceNeg, not_false_eq_true, not_true_eq_false, ↓reduceIte, Int.reduceLT, Int.reduceLE, and_self, or_true, true_or, or_false, false_or, false_and, and_false, ah_t_w, ah_m_w, ah_n_w, mt_1036a hM, mt_1076a hM, mt_1076b hM, mf_49 hM, w32_i]
  omega
theorem k_287 (hM : MI h) (h1 : 0 ≤ mm) (h2 : mm < 8) : wpC (d + 1) 287 [.inr (.inr 1036), .inl mm] h Q ↔ Q (.inl (some (.inl (ah_m h 1076 (17 + 2 * mm))))) h := by
  apply CT_iff; apply CT_of; rw [wpC_B]; refine ⟨⟨Nat.zero_lt_succ _, Nat.le_of_ble_eq_true rfl⟩, ?_⟩; simp only [lent]
  simp (disch := omega) only [q_287_0, b_287_0, ↓w_iconst, ↓w_bipush, ↓w_aload_n_0, ↓w_iload_n_1, ↓w_iadd, ↓w_imul, ↓w_getfield, ↓w_iaload, ↓w_ireturn0, stw_0, stw_i, stw_l, stw_r, ofK0, ofK1, ofK2, lst1, lst2, lkill, kont_none, kont_some, Int.reduceToNat, List.length_cons, List.length_nil, Nat.reduceAdd, Nat.reduceLeDiff, Nat.zero_le, true_and, and_true, if_true, if_false, ne_eq, Int.reduceEq, Int.reduceNeg, not_false_eq_true, not_true_eq_false, ↓reduceIte, Int.reduceLT, Int.reduceLE, and_self, or_true, true_or, or_false, false_or, false_and, and_false, ah_t_w, ah_m_w, ah_n_w, mt_1036a hM, mt_1076a hM, mt_1076b hM, mf_49 hM, w32_i]
  omega
theorem k_282 (hM : MI h) (hV : MV h) (h1 : 0 ≤ mm) (h2 : mm < 8) : wpC (d + 2) 282 [.inr (.inr 1036), .inl mm] h Q ↔ Q (.inl (some (.inl (if ah_m h 1075 (23 + 4 * ah_m h 1076 (16 + 2 * mm)) = 1 then 1 else 0)))) h := by
  have hk := hV.2.2.2.2.2.1 mm h1 h2
  apply CT_iff; apply CT_of; rw [wpC_B]; refine ⟨⟨Nat.zero_lt_succ _, Nat.le_of_ble_eq_true rfl⟩, ?_⟩; simp only [lent]
  simp (disch := omega) only [q_282_0, b_282_0, q_282_23, b_282_23, q_282_24, b_282_24, ↓w_iconst, ↓w_bipush, ↓w_aload_n_0, ↓w_iload_n_1, ↓w_iadd, ↓w_imul, ↓w_getfield, ↓w_iaload, ↓w_nop, ↓w_goto, ↓w_if_icmp_ne, ↓w_ireturn1, ↓w_invokevirtual_1, stw_0, stw_i, stw_l, stw_r, ofK0, ofK1, ofK2, lst1, lst2, lkill, kont_none, kont_some, Int.reduceToNat, List.length_cons, List.length_nil, Nat.reduceAdd, Nat.reduceLeDiff, Nat.zero_le, true_and, and_true, if_true, if_false, ne_eq, Int.reduceEq, Int.reduceNeg, not_false_eq_true, not_true_eq_false, ↓reduceIte, Int.reduceLT, Int.reduceLE, and_self, or_true, true_or, or_false, false_or, false_and, and_false, ah_t_w, ah_m_w, ah_n_w, mt_1036a hM, mt_1075a hM, mt_1075b hM, mf_48 hM, k_283 hM, w32_i]
  refine ⟨by omega, ?_⟩
  split <;> simp
theorem k_315 (hM : MI h) (hV : MV h) (h1 : 0 ≤ mm) (h2 : mm < 8) : wpC (d + 2) 315 [.inr (.inr 1036), .inl mm] h Q ↔ Q (.inl (some (.inl (ah_m h 1075 (22 + 4 * ah_m h 1076 (16 + 2 * mm)))))) h := by
  have hk := hV.2.2.2.2.2.1 mm h1 h2
  apply CT_iff; apply CT_of; rw [wpC_B]; refine ⟨⟨Nat.zero_lt_succ _, Nat.le_of_ble_eq_true rfl⟩, ?_⟩; simp only [lent]
  simp (disch := omega) only [q_315_0, b_315_0, ↓w_iconst, ↓w_bipush, ↓w_aload_n_0, ↓w_iload_n_1, ↓w_iadd, ↓w_imul, ↓w_getfield, ↓w_iaload, ↓w_ireturn0, ↓w_invokevirtual_1, stw_0, stw_i, stw_l, stw_r, ofK0, ofK1, ofK2, lst1, lst2, lkill, kont_none, kont_some, Int.reduceToNat, List.length_cons, List.length_nil, Nat.reduceAdd, Nat.reduceLeDiff, Nat.zero_le, true_and, and_true, if_true, if_false, ne_eq, Int.reduceEq, Int.reduceNeg, not_false_eq_true, not_true_eq_false, ↓reduceIte, Int.reduceLT, Int.reduceLE, and_self, or_true, true_or, or_false, false_or, false_and, and_false, ah_t_w, ah_m_w, ah_n_w, mt_1036a hM, mt_1075a hM, mt_1075b hM, mf_48 hM, k_283 hM, w32_i]
  omega
theorem k_289 (hM : MI h) (hV : MV h) : wpC (d + 1) 289 [.inr (.inr 1036)] h Q ↔ Q (.inl (some (.inl (ah_m h 1074 4 * ah_m h 1074 5)))) h := by
  have h4 := hV.2.2.2.1; have h5 := hV.2.2.2.2.1
  have h6 : 0 ≤ ah_m h 1074 4 * ah_m h 1074 5 := Int.mul_nonneg h4.1 h5.1
  have h7 : ah_m h 1074 4 * ah_m h 1074 5 ≤ 5 * 5 := Int.mul_le_mul h4.2 h5.2 h5.1 (by decide)
  apply CT_iff; apply CT_of; rw [wpC_B]; refine ⟨⟨Nat.zero_lt_succ _, Nat.le_of_ble_eq_true rfl⟩, ?_⟩; simp only [lent]
  simp (disch := omega) only [q_289_0, b_289_0, ↓w_iconst, ↓w_aload_n_0, ↓w_imul, ↓w_getfield, ↓w_iaload, ↓w_ireturn0, stw_0, stw_i, stw_l, stw_r, ofK0, ofK1, ofK2, lst1, lst2, lkill, kont_none, kont_some, Int.reduceToNat, List.length_cons, List.length_nil, Nat.reduceAdd, Nat.reduceLeDiff, Nat.zero_le, true_and, and_true, if_true, if_false, ne_eq, Int.reduceEq, Int.reduceNeg, not_false_eq_true, not_true_eq_false, ↓reduceIte, Int.reduceLT, Int.reduceLE, and_self, or_true, true_or, or_false, false_or, false_and, and_false, ah_t_w, ah_m_w, ah_n_w, mt_1036a hM, mt_1074a hM, mt_1074b hM, mf_47 hM, w32_i]
theorem k_291 (h1 : -1000 ≤ z) (h2 : z ≤ 1000) : wpC (d + 1) 291 [.inl z] h Q ↔ Q (.inl (some (.inl (zabs z)))) h := by
  apply CT_iff; apply CT_of; rw [wpC_B]; refine ⟨⟨Nat.zero_lt_succ _, Nat.le_of_ble_eq_true rfl⟩, ?_⟩; simp only [lent]
  simp (disch := omega) only [q_291_0, b_291_0, q_291_9, b_291_9, q_291_10, b_291_10, ↓w_iload_n_0, ↓w_ineg, ↓w_nop, ↓w_goto, ↓w_ifCond_ge, ↓w_ireturn0, stw_0, stw_i, stw_l, stw_r, ofK0, ofK1, ofK2, lst1, lst2, lkill, kont_none, kont_some, Int.reduceToNat, List.length_cons, List.length_nil, Nat.reduceAdd, Nat.reduceLeDiff, Nat.zero_le, true_and, and_true, if_true, if_false, ne_eq, Int.reduceEq, Int.reduceNeg, not_false_eq_true, not_true_eq_false, ↓reduceIte, Int.reduceLT, Int.reduceLE, and_self, or_true, true_or, or_false, false_or, false_and, and_false, ah_t_w, ah_m_w, ah_n_w, w32_i, zabs]
  split <;> simp
theorem k_295 : wpC (d + 1) 295 [.inl z] h Q ↔ Q (.inl (some (.inl (zsgn z)))) h := by
  apply CT_iff; apply CT_of; rw [wpC_B]; refine ⟨⟨Nat.zero_lt_succ _, Nat.le_of_ble_eq_true rfl⟩, ?_⟩; simp only [lent]
  simp (disch := omega) only [q_295_0, b_295_0, q_295_8, b_295_8, q_295_16, b_295_16, q_295_17, b_295_17, ↓w_iconst, ↓w_iload_n_0, ↓w_nop, ↓w_goto, ↓w_ifCond_ge, ↓w_ifCond_le, ↓w_ireturn0, stw_0, stw_i, stw_l, stw_r, ofK0, ofK1, ofK2, lst1, lst2, lkill, kont_none, kont_some, Int.reduceToNat, List.length_cons, List.length_nil, Nat.reduceAdd, Nat.reduceLeDiff, Nat.zero_le, true_and, and_true, if_true, if_false, ne_eq, Int.reduceEq, Int.reduceNeg, not_false_eq_true, not_true_eq_false, ↓reduceIte, Int.reduceLT, Int.reduceLE, and_self, or_true, true_or, or_false, false_or, false_and, and_false, ah_t_w, ah_m_w, ah_n_w, zsgn]
  split
  · simp
  · split <;> simp
theorem zabs_b (h1 : -1000 ≤ z) (h2 : z ≤ 1000) : 0 ≤ zabs z ∧ zabs z ≤ 1000 := by unfold zabs; split <;> omega
theorem k_293 {a b : Int} (h1 : -100 ≤ x) (h2 : x ≤ 100) (h3 : -100 ≤ y) (h4 : y ≤ 100) (h5 : -100 ≤ a) (h6 : a ≤ 100) (h7 : -100 ≤ b) (h8 : b ≤ 100) : wpC (d + 2) 293 [.inl x, .inl y, .inl a, .inl b] h Q ↔ Q (.inl (some (.inl (zoff x y a b)))) h := by
  apply CT_iff; apply CT_of; rw [wpC_B]; refine ⟨⟨Nat.zero_lt_succ _, Nat.le_of_ble_eq_true rfl⟩, ?_⟩; simp only [lent]
  simp (disch := omega) only [q_293_0, b_293_0, q_293_28, b_293_28, q_293_30, b_293_30, ↓w_iload_n_0, ↓w_iload_n_1, ↓w_iload_n_2, ↓w_iload_n_3, ↓w_iload_4, ↓w_iload_5, ↓w_istore, ↓w_isub, ↓w_nop, ↓w_goto, ↓w_if_icmp_le, ↓w_ireturn0, ↓w_invokestatic_1, stw_0, stw_i, stw_l, stw_r, ofK0, ofK1, ofK2, lst1, lst2, lkill, kont_none, kont_some, Int.reduceToNat, List.length_cons, List.length_nil, Nat.reduceAdd, Nat.reduceLeDiff, Nat.zero_le, true_and, and_true, if_true, if_false, ne_eq, Int.reduceEq, Int.reduceNeg, not_false_eq_true, not_true_eq_false, ↓reduceIte, Int.reduceLT, Int.reduceLE, and_self, or_true, true_or, or_false, false_or, false_and, and_false, ah_t_w, ah_m_w, ah_n_w, w32_i, k_291, zoff]
  split <;> simp
end M0
