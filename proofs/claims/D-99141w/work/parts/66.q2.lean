/-! ===== M: sums told ===== -/
def Pil (h : AH) : List Int → Prop
  | [] => True
  | x :: st => ah_m h 1119 st.length = x ∧ Pil h st
def Wq (r i : Int) : Prop := r = 1119 ∨ (r = 1036 ∧ (i = 73 ∨ i = 59 ∨ i = 117))
def zpt (h : AH) (T : Int → Int → Int) (nw : Int → Int) (m w : Int) : Int := if w = 0 then ah_m h 1036 71 else if w = 1 then ah_m h 1036 72 else if w = 2 then ah_m h 1036 73 else if w = 3 then nw 0 else if w = 4 then m else if w = 5 then nw (2 + 2 * m) else if w = 6 then nw (3 + 2 * m) else if w = 7 then zs T m else if w = 8 then zwo T m else if w = 9 then T 1075 (21 + 4 * T 1076 (16 + 2 * m)) else ah_m h 1089 m
section Q2
variable {d : Nat} {h h0 : AH} {Q : QQ} {x y z m k s l w a b c v n : Int} {T : Int → Int → Int} {nw g : Int → Int}
set_option maxHeartbeats 2000000
theorem lc_gt : (0 < lcmp_ a b) = (b < a) := by unfold lcmp_; split; simp; omega; split <;> simp <;> omega
theorem lc_lt : (lcmp_ a b < 0) = (a < b) := by unfold lcmp_; split; simp; omega; split <;> simp <;> omega
theorem lc_eq : (lcmp_ a b = 0) = (a = b) := by unfold lcmp_; split; simp; omega; split <;> simp <;> omega
theorem c_335 (hM : MI h) (e : ah_m h 1036 117 = n) (h1 : 0 ≤ n) (h2 : n < 1700) : wpC (d + 1) 335 [.inr (.inr 1036), .inr (.inl v)] h Q ↔ Q (.inl none) (ah_w (ah_w h 1119 n v) 1036 117 (n + 1)) := by
  apply CT_iff; apply CT_of; rw [wpC_B]; refine ⟨⟨Nat.zero_lt_succ _, Nat.le_of_ble_eq_true rfl⟩, ?_⟩; simp only [lent]
  simp (disch := omega) only [q_335_0, b_335_0, ↓w_iconst, ↓w_aload_n_0, ↓w_lload_n_1, ↓w_dup_i, ↓w_dup_a, ↓w_iadd, ↓w_getfield, ↓w_putfield_0, ↓w_lastore, ↓w_return, stw_0, stw_i, stw_l, stw_r, ofK0, ofK1, ofK2, lst1, lst2, lkill, kont_none, kont_some, Int.reduceToNat, List.length_cons, List.length_nil, Nat.reduceAdd, Nat.reduceLeDiff, Nat.zero_le, true_and, and_true, if_true, if_false, ne_eq, Int.reduceEq, Int.reduceNeg, not_false_eq_true, not_true_eq_false, ↓reduceIte, Int.reduceLT, Int.reduceLE, and_self, or_true, true_or, or_false, false_or, false_and, and_false, ah_t_w, ah_m_w, ah_n_w, lst1_0, List.tail_cons, w32_i, zbd, lst2_0, mt_1036a hM, mt_1119a hM, mt_1119b hM, mf_116 hM, e]
theorem c_338 : wpC (d + 1) 338 [.inr (.inl v)] h Q ↔ Q (.inl (some (.inr (.inl (zclip v))))) h := by
  unfold zclip
  by_cases e1 : 1000000 < v
  · rw [if_pos e1]
    apply CT_iff; apply CT_of; rw [wpC_B]; refine ⟨⟨Nat.zero_lt_succ _, Nat.le_of_ble_eq_true rfl⟩, ?_⟩; simp only [lent]
    simp (disch := omega) only [q_338_0, b_338_0, q_338_14, b_338_14, q_338_28, b_338_28, q_338_29, b_338_29, ↓w_ldc2_w, ↓w_lload_n_0, ↓w_lcmp, ↓w_nop, ↓w_goto, ↓w_ifCond_ge, ↓w_ifCond_le, ↓w_lreturn, stw_0, stw_i, stw_l, stw_r, ofK0, ofK1, ofK2, lst1, lst2, lkill, kont_none, kont_some, Int.reduceToNat, List.length_cons, List.length_nil, Nat.reduceAdd, Nat.reduceLeDiff, Nat.zero_le, true_and, and_true, if_true, if_false, ne_eq, Int.reduceEq, Int.reduceNeg, not_false_eq_true, not_true_eq_false, ↓reduceIte, Int.reduceLT, Int.reduceLE, and_self, or_true, true_or, or_false, false_or, false_and, and_false, ah_t_w, ah_m_w, ah_n_w, lst1_0, List.tail_cons, w32_i, zbd, lst2_0, lc_gt, lc_lt, lc_eq, e1]
  · rw [if_neg e1]
    by_cases e2 : v < -1000000
    · rw [if_pos e2]
      apply CT_iff; apply CT_of; rw [wpC_B]; refine ⟨⟨Nat.zero_lt_succ _, Nat.le_of_ble_eq_true rfl⟩, ?_⟩; simp only [lent]
      simp (disch := omega) only [q_338_0, b_338_0, q_338_14, b_338_14, q_338_28, b_338_28, q_338_29, b_338_29, ↓w_ldc2_w, ↓w_lload_n_0, ↓w_lcmp, ↓w_nop, ↓w_goto, ↓w_ifCond_ge, ↓w_ifCond_le, ↓w_lreturn, stw_0, stw_i, stw_l, stw_r, ofK0, ofK1, ofK2, lst1, lst2, lkill, kont_none, kont_some, Int.reduceToNat, List.length_cons, List.length_nil, Nat.reduceAdd, Nat.reduceLeDiff, Nat.zero_le, true_and, and_true, if_true, if_false, ne_eq, Int.reduceEq, Int.reduceNeg, not_false_eq_true, not_true_eq_false, ↓reduceIte, Int.reduceLT, Int.reduceLE, and_self, or_true, true_or, or_false, false_or, false_and, and_false, ah_t_w, ah_m_w, ah_n_w, lst1_0, List.tail_cons, w32_i, zbd, lst2_0, lc_gt, lc_lt, lc_eq, e1, e2]
    · rw [if_neg e2]
      apply CT_iff; apply CT_of; rw [wpC_B]; refine ⟨⟨Nat.zero_lt_succ _, Nat.le_of_ble_eq_true rfl⟩, ?_⟩; simp only [lent]
      simp (disch := omega) only [q_338_0, b_338_0, q_338_14, b_338_14, q_338_28, b_338_28, q_338_29, b_338_29, ↓w_ldc2_w, ↓w_lload_n_0, ↓w_lcmp, ↓w_nop, ↓w_goto, ↓w_ifCond_ge, ↓w_ifCond_le, ↓w_lreturn, stw_0, stw_i, stw_l, stw_r, ofK0, ofK1, ofK2, lst1, lst2, lkill, kont_none, kont_some, Int.reduceToNat, List.length_cons, List.length_nil, Nat.reduceAdd, Nat.reduceLeDiff, Nat.zero_le, true_and, and_true, if_true, if_false, ne_eq, Int.reduceEq, Int.reduceNeg, not_false_eq_true, not_true_eq_false, ↓reduceIte, Int.reduceLT, Int.reduceLE, and_self, or_true, true_or, or_false, false_or, false_and, and_false, ah_t_w, ah_m_w, ah_n_w, lst1_0, List.tail_cons, w32_i, zbd, lst2_0, lc_gt, lc_lt, lc_eq, e1, e2]
theorem tdiv_b (h1 : -1000000 ≤ a) (h2 : a ≤ 1000000) : -1000000 ≤ a.tdiv b ∧ a.tdiv b ≤ 1000000 := by
  have e1 : (a.tdiv b).natAbs = a.natAbs / b.natAbs := Int.natAbs_tdiv a b
  have e2 : a.natAbs / b.natAbs ≤ a.natAbs := Nat.div_le_self _ _
  omega
theorem c_339 (h1 : -1000000 ≤ a) (h2 : a ≤ 1000000) : wpC (d + 1) 339 [.inr (.inl a), .inr (.inl b)] h Q ↔ Q (.inl (some (.inr (.inl (zfl a b))))) h := by
  have hb := @tdiv_b a b h1 h2
  have e3 : w64 (a.tdiv b) = a.tdiv b := w64_i (by omega) (by omega)
  have e4 : w64 (a.tdiv b - 1) = a.tdiv b - 1 := w64_i (by omega) (by omega)
  unfold zfl
  by_cases e0 : b = 0
  · rw [if_pos e0]
    apply CT_iff; apply CT_of; rw [wpC_B]; refine ⟨⟨Nat.zero_lt_succ _, Nat.le_of_ble_eq_true rfl⟩, ?_⟩; simp only [lent]
    simp (disch := omega) only [q_339_0, b_339_0, q_339_8, b_339_8, q_339_31, b_339_31, q_339_32, b_339_32, q_339_42, b_339_42, q_339_43, b_339_43, q_339_53, b_339_53, q_339_55, b_339_55, ↓w_iconst, ↓w_lconst, ↓w_lload_n_0, ↓w_lload_n_2, ↓w_lload_4, ↓w_lstore, ↓w_lsub, ↓w_lcmp, ↓w_ldiv, ↓w_lrem, ↓w_nop, ↓w_goto, ↓w_ifCond_eq, ↓w_if_icmp_eq, ↓w_ifCond_ne, ↓w_ifCond_ge, ↓w_lreturn, stw_0, stw_i, stw_l, stw_r, ofK0, ofK1, ofK2, lst1, lst2, lkill, kont_none, kont_some, Int.reduceToNat, List.length_cons, List.length_nil, Nat.reduceAdd, Nat.reduceLeDiff, Nat.zero_le, true_and, and_true, if_true, if_false, ne_eq, Int.reduceEq, Int.reduceNeg, not_false_eq_true, not_true_eq_false, ↓reduceIte, Int.reduceLT, Int.reduceLE, and_self, or_true, true_or, or_false, false_or, false_and, and_false, ah_t_w, ah_m_w, ah_n_w, lst1_0, List.tail_cons, w32_i, zbd, lst2_0, lc_gt, lc_lt, lc_eq, e0]
  · rw [if_neg e0]
    by_cases e1 : a.tmod b = 0
    · rw [if_neg (fun q => q.1 e1)]
      apply CT_iff; apply CT_of; rw [wpC_B]; refine ⟨⟨Nat.zero_lt_succ _, Nat.le_of_ble_eq_true rfl⟩, ?_⟩; simp only [lent]
      simp (disch := omega) only [q_339_0, b_339_0, q_339_8, b_339_8, q_339_31, b_339_31, q_339_32, b_339_32, q_339_42, b_339_42, q_339_43, b_339_43, q_339_53, b_339_53, q_339_55, b_339_55, ↓w_iconst, ↓w_lconst, ↓w_lload_n_0, ↓w_lload_n_2, ↓w_lload_4, ↓w_lstore, ↓w_lsub, ↓w_lcmp, ↓w_ldiv, ↓w_lrem, ↓w_nop, ↓w_goto, ↓w_ifCond_eq, ↓w_if_icmp_eq, ↓w_ifCond_ne, ↓w_ifCond_ge, ↓w_lreturn, stw_0, stw_i, stw_l, stw_r, ofK0, ofK1, ofK2, lst1, lst2, lkill, kont_none, kont_some, Int.reduceToNat, List.length_cons, List.length_nil, Nat.reduceAdd, Nat.reduceLeDiff, Nat.zero_le, true_and, and_true, if_true, if_false, ne_eq, Int.reduceEq, Int.reduceNeg, not_false_eq_true, not_true_eq_false, ↓reduceIte, Int.reduceLT, Int.reduceLE, and_self, or_true, true_or, or_false, false_or, false_and, and_false, ah_t_w, ah_m_w, ah_n_w, lst1_0, List.tail_cons, w32_i, zbd, lst2_0, lc_gt, lc_lt, lc_eq, e0, e1, e3, e4]
    · by_cases e5 : a < 0 <;> by_cases e6 : b < 0 <;> simp only [e1, e5, e6, ne_eq, not_false_eq_true, not_true_eq_false, true_and, and_self, and_true, and_false, false_and, or_false, or_true, or_self, if_true, if_false] <;> (apply CT_iff; apply CT_of; rw [wpC_B]; refine ⟨⟨Nat.zero_lt_succ _, Nat.le_of_ble_eq_true rfl⟩, ?_⟩; simp only [lent]; simp (disch := omega) only [q_339_0, b_339_0, q_339_8, b_339_8, q_339_31, b_339_31, q_339_32, b_339_32, q_339_42, b_339_42, q_339_43, b_339_43, q_339_53, b_339_53, q_339_55, b_339_55, ↓w_iconst, ↓w_lconst, ↓w_lload_n_0, ↓w_lload_n_2, ↓w_lload_4, ↓w_lstore, ↓w_lsub, ↓w_lcmp, ↓w_ldiv, ↓w_lrem, ↓w_nop, ↓w_goto, ↓w_ifCond_eq, ↓w_if_icmp_eq, ↓w_ifCond_ne, ↓w_ifCond_ge, ↓w_lreturn, stw_0, stw_i, stw_l, stw_r, ofK0, ofK1, ofK2, lst1, lst2, lkill, kont_none, kont_some, Int.reduceToNat, List.length_cons, List.length_nil, Nat.reduceAdd, Nat.reduceLeDiff, Nat.zero_le, true_and, and_true, if_true, if_false, ne_eq, Int.reduceEq, Int.reduceNeg, not_false_eq_true, not_true_eq_false, ↓reduceIte, Int.reduceLT, Int.reduceLE, and_self, or_true, true_or, or_false, false_or, false_and, and_false, ah_t_w, ah_m_w, ah_n_w, lst1_0, List.tail_cons, w32_i, zbd, lst2_0, lc_gt, lc_lt, lc_eq, e0, e1, e3, e4, e5, e6])
theorem c_337 (hM : MI h) (e : ah_m h 1036 117 = n) (h1 : 2 ≤ n) (h2 : n < 1700) (eb : ah_m h 1119 (n - 1) = b) (ea : ah_m h 1119 (n - 2) = a) (ha : -1000000 ≤ a ∧ a ≤ 1000000) (hb : -1000000 ≤ b ∧ b ≤ 1000000) (hc : 1 ≤ c ∧ c ≤ 11) : wpC (d + 2) 337 [.inr (.inr 1036), .inl c] h Q ↔ Q (.inl none) (ah_w (ah_w (ah_w h 1036 117 (n - 2)) 1119 (n - 2) (zjo c a b)) 1036 117 (n - 1)) := by
  have hM1 : MI (ah_w h 1036 117 (n - 2)) := MI_w hM (by unfold fre; omega)
  have e1 : ah_m (ah_w h 1036 117 (n - 2)) 1036 117 = n - 2 := by rw [ah_m_w, if_pos ⟨rfl, rfl⟩]
  have e2 : n - 2 + 1 = n - 1 := by omega
  have ha' : a * b ≤ 1000000000000 ∧ -1000000000000 ≤ a * b := by
    have hn : (a * b).natAbs = a.natAbs * b.natAbs := Int.natAbs_mul a b
    have : a.natAbs * b.natAbs ≤ 1000000 * 1000000 := Nat.mul_le_mul (by omega) (by omega)
    omega
  have f1 : w64 (a + b) = a + b := w64_i (by omega) (by omega)
  have f2 : w64 (a - b) = a - b := w64_i (by omega) (by omega)
  have f3 : w64 (a * b) = a * b := w64_i (by omega) (by omega)
  have : c = 1 ∨ c = 2 ∨ c = 3 ∨ c = 4 ∨ c = 5 ∨ c = 6 ∨ c = 7 ∨ c = 8 ∨ c = 9 ∨ c = 10 ∨ c = 11 := by omega
  rcases this with g | g | g | g | g | g | g | g | g | g | g <;> subst g <;> simp only [zjo, Int.reduceEq, if_true, if_false]
  · apply CT_iff; apply CT_of; rw [wpC_B]; refine ⟨⟨Nat.zero_lt_succ _, Nat.le_of_ble_eq_true rfl⟩, ?_⟩; simp only [lent]
    simp (disch := omega) only [q_337_0, b_337_0, q_337_92, b_337_92, q_337_273, b_337_273, ↓w_iconst, ↓w_aload_n_0, ↓w_iload_n_1, ↓w_lload_n_2, ↓w_lload_4, ↓w_lstore, ↓w_lstore_n_2, ↓w_dup_i, ↓w_dup_a, ↓w_isub, ↓w_ladd, ↓w_getfield, ↓w_putfield_0, ↓w_laload, ↓w_goto, ↓w_tableswitch, ↓w_return, ↓w_invokestatic_1, ↓w_invokevirtual_1, stw_0, stw_i, stw_l, stw_r, ofK0, ofK1, ofK2, lst1, lst2, lkill, kont_none, kont_some, Int.reduceToNat, List.length_cons, List.length_nil, Nat.reduceAdd, Nat.reduceLeDiff, Nat.zero_le, true_and, and_true, if_true, if_false, ne_eq, Int.reduceEq, Int.reduceNeg, not_false_eq_true, not_true_eq_false, ↓reduceIte, Int.reduceLT, Int.reduceLE, and_self, or_true, true_or, or_false, false_or, false_and, and_false, ah_t_w, ah_m_w, ah_n_w, lst1_0, List.tail_cons, w32_i, zbd, lst2_0, asc, Option.getD_some, Option.getD_none, mt_1036a hM, mt_1119a hM, mt_1119b hM, mf_116 hM, e, ea, eb, f1, c_338, c_335 hM1 e1, e2]
  · apply CT_iff; apply CT_of; rw [wpC_B]; refine ⟨⟨Nat.zero_lt_succ _, Nat.le_of_ble_eq_true rfl⟩, ?_⟩; simp only [lent]
    simp (disch := omega) only [q_337_0, b_337_0, q_337_106, b_337_106, q_337_273, b_337_273, ↓w_iconst, ↓w_aload_n_0, ↓w_iload_n_1, ↓w_lload_n_2, ↓w_lload_4, ↓w_lstore, ↓w_lstore_n_2, ↓w_dup_i, ↓w_dup_a, ↓w_isub, ↓w_lsub, ↓w_getfield, ↓w_putfield_0, ↓w_laload, ↓w_goto, ↓w_tableswitch, ↓w_return, ↓w_invokestatic_1, ↓w_invokevirtual_1, stw_0, stw_i, stw_l, stw_r, ofK0, ofK1, ofK2, lst1, lst2, lkill, kont_none, kont_some, Int.reduceToNat, List.length_cons, List.length_nil, Nat.reduceAdd, Nat.reduceLeDiff, Nat.zero_le, true_and, and_true, if_true, if_false, ne_eq, Int.reduceEq, Int.reduceNeg, not_false_eq_true, not_true_eq_false, ↓reduceIte, Int.reduceLT, Int.reduceLE, and_self, or_true, true_or, or_false, false_or, false_and, and_false, ah_t_w, ah_m_w, ah_n_w, lst1_0, List.tail_cons, w32_i, zbd, lst2_0, asc, Option.getD_some, Option.getD_none, mt_1036a hM, mt_1119a hM, mt_1119b hM, mf_116 hM, e, ea, eb, f2, c_338, c_335 hM1 e1, e2]
  · apply CT_iff; apply CT_of; rw [wpC_B]; refine ⟨⟨Nat.zero_lt_succ _, Nat.le_of_ble_eq_true rfl⟩, ?_⟩; simp only [lent]
    simp (disch := omega) only [q_337_0, b_337_0, q_337_120, b_337_120, q_337_273, b_337_273, ↓w_iconst, ↓w_aload_n_0, ↓w_iload_n_1, ↓w_lload_n_2, ↓w_lload_4, ↓w_lstore, ↓w_lstore_n_2, ↓w_dup_i, ↓w_dup_a, ↓w_isub, ↓w_lmul, ↓w_getfield, ↓w_putfield_0, ↓w_laload, ↓w_goto, ↓w_tableswitch, ↓w_return, ↓w_invokestatic_1, ↓w_invokevirtual_1, stw_0, stw_i, stw_l, stw_r, ofK0, ofK1, ofK2, lst1, lst2, lkill, kont_none, kont_some, Int.reduceToNat, List.length_cons, List.length_nil, Nat.reduceAdd, Nat.reduceLeDiff, Nat.zero_le, true_and, and_true, if_true, if_false, ne_eq, Int.reduceEq, Int.reduceNeg, not_false_eq_true, not_true_eq_false, ↓reduceIte, Int.reduceLT, Int.reduceLE, and_self, or_true, true_or, or_false, false_or, false_and, and_false, ah_t_w, ah_m_w, ah_n_w, lst1_0, List.tail_cons, w32_i, zbd, lst2_0, asc, Option.getD_some, Option.getD_none, mt_1036a hM, mt_1119a hM, mt_1119b hM, mf_116 hM, e, ea, eb, f3, c_338, c_335 hM1 e1, e2]
  · apply CT_iff; apply CT_of; rw [wpC_B]; refine ⟨⟨Nat.zero_lt_succ _, Nat.le_of_ble_eq_true rfl⟩, ?_⟩; simp only [lent]
    simp (disch := omega) only [q_337_0, b_337_0, q_337_134, b_337_134, q_337_273, b_337_273, ↓w_iconst, ↓w_aload_n_0, ↓w_iload_n_1, ↓w_lload_n_2, ↓w_lload_4, ↓w_lstore, ↓w_lstore_n_2, ↓w_dup_i, ↓w_dup_a, ↓w_isub, ↓w_getfield, ↓w_putfield_0, ↓w_laload, ↓w_goto, ↓w_tableswitch, ↓w_return, ↓w_invokevirtual_1, ↓w_invokestatic_2, stw_0, stw_i, stw_l, stw_r, ofK0, ofK1, ofK2, lst1, lst2, lkill, kont_none, kont_some, Int.reduceToNat, List.length_cons, List.length_nil, Nat.reduceAdd, Nat.reduceLeDiff, Nat.zero_le, true_and, and_true, if_true, if_false, ne_eq, Int.reduceEq, Int.reduceNeg, not_false_eq_true, not_true_eq_false, ↓reduceIte, Int.reduceLT, Int.reduceLE, and_self, or_true, true_or, or_false, false_or, false_and, and_false, ah_t_w, ah_m_w, ah_n_w, lst1_0, List.tail_cons, w32_i, zbd, lst2_0, asc, Option.getD_some, Option.getD_none, mt_1036a hM, mt_1119a hM, mt_1119b hM, mf_116 hM, e, ea, eb, c_339 ha.1 ha.2, c_335 hM1 e1, e2]
  · by_cases g : a < b <;> simp only [g, if_true, if_false] <;> (apply CT_iff; apply CT_of; rw [wpC_B]; refine ⟨⟨Nat.zero_lt_succ _, Nat.le_of_ble_eq_true rfl⟩, ?_⟩; simp only [lent]; simp (disch := omega) only [q_337_0, b_337_0, q_337_147, b_337_147, q_337_160, b_337_160, q_337_161, b_337_161, q_337_273, b_337_273, ↓w_iconst, ↓w_aload_n_0, ↓w_iload_n_1, ↓w_lload_n_2, ↓w_lload_4, ↓w_lstore, ↓w_lstore_n_2, ↓w_dup_i, ↓w_dup_a, ↓w_isub, ↓w_lcmp, ↓w_getfield, ↓w_putfield_0, ↓w_laload, ↓w_nop, ↓w_goto, ↓w_ifCond_ge, ↓w_tableswitch, ↓w_return, ↓w_invokevirtual_1, stw_0, stw_i, stw_l, stw_r, ofK0, ofK1, ofK2, lst1, lst2, lkill, kont_none, kont_some, Int.reduceToNat, List.length_cons, List.length_nil, Nat.reduceAdd, Nat.reduceLeDiff, Nat.zero_le, true_and, and_true, if_true, if_false, ne_eq, Int.reduceEq, Int.reduceNeg, not_false_eq_true, not_true_eq_false, ↓reduceIte, Int.reduceLT, Int.reduceLE, and_self, or_true, true_or, or_false, false_or, false_and, and_false, ah_t_w, ah_m_w, ah_n_w, lst1_0, List.tail_cons, w32_i, zbd, lst2_0, asc, Option.getD_some, Option.getD_none, lc_gt, lc_lt, lc_eq, mt_1036a hM, mt_1119a hM, mt_1119b hM, mf_116 hM, e, ea, eb, c_335 hM1 e1, e2, g])
  · by_cases g : b < a <;> simp only [g, if_true, if_false] <;> (apply CT_iff; apply CT_of; rw [wpC_B]; refine ⟨⟨Nat.zero_lt_succ _, Nat.le_of_ble_eq_true rfl⟩, ?_⟩; simp only [lent]; simp (disch := omega) only [q_337_0, b_337_0, q_337_167, b_337_167, q_337_180, b_337_180, q_337_181, b_337_181, q_337_273, b_337_273, ↓w_iconst, ↓w_aload_n_0, ↓w_iload_n_1, ↓w_lload_n_2, ↓w_lload_4, ↓w_lstore, ↓w_lstore_n_2, ↓w_dup_i, ↓w_dup_a, ↓w_isub, ↓w_lcmp, ↓w_getfield, ↓w_putfield_0, ↓w_laload, ↓w_nop, ↓w_goto, ↓w_ifCond_le, ↓w_tableswitch, ↓w_return, ↓w_invokevirtual_1, stw_0, stw_i, stw_l, stw_r, ofK0, ofK1, ofK2, lst1, lst2, lkill, kont_none, kont_some, Int.reduceToNat, List.length_cons, List.length_nil, Nat.reduceAdd, Nat.reduceLeDiff, Nat.zero_le, true_and, and_true, if_true, if_false, ne_eq, Int.reduceEq, Int.reduceNeg, not_false_eq_true, not_true_eq_false, ↓reduceIte, Int.reduceLT, Int.reduceLE, and_self, or_true, true_or, or_false, false_or, false_and, and_false, ah_t_w, ah_m_w, ah_n_w, lst1_0, List.tail_cons, w32_i, zbd, lst2_0, asc, Option.getD_some, Option.getD_none, lc_gt, lc_lt, lc_eq, mt_1036a hM, mt_1119a hM, mt_1119b hM, mf_116 hM, e, ea, eb, c_335 hM1 e1, e2, g])
  · by_cases g : a < b <;> simp only [g, if_true, if_false] <;> (apply CT_iff; apply CT_of; rw [wpC_B]; refine ⟨⟨Nat.zero_lt_succ _, Nat.le_of_ble_eq_true rfl⟩, ?_⟩; simp only [lent]; simp (disch := omega) only [q_337_0, b_337_0, q_337_187, b_337_187, q_337_199, b_337_199, q_337_200, b_337_200, q_337_273, b_337_273, ↓w_iconst, ↓w_lconst, ↓w_aload_n_0, ↓w_iload_n_1, ↓w_lload_n_2, ↓w_lload_4, ↓w_lstore, ↓w_lstore_n_2, ↓w_dup_i, ↓w_dup_a, ↓w_isub, ↓w_lcmp, ↓w_getfield, ↓w_putfield_0, ↓w_laload, ↓w_nop, ↓w_goto, ↓w_ifCond_ge, ↓w_tableswitch, ↓w_return, ↓w_invokevirtual_1, stw_0, stw_i, stw_l, stw_r, ofK0, ofK1, ofK2, lst1, lst2, lkill, kont_none, kont_some, Int.reduceToNat, List.length_cons, List.length_nil, Nat.reduceAdd, Nat.reduceLeDiff, Nat.zero_le, true_and, and_true, if_true, if_false, ne_eq, Int.reduceEq, Int.reduceNeg, not_false_eq_true, not_true_eq_false, ↓reduceIte, Int.reduceLT, Int.reduceLE, and_self, or_true, true_or, or_false, false_or, false_and, and_false, ah_t_w, ah_m_w, ah_n_w, lst1_0, List.tail_cons, w32_i, zbd, lst2_0, asc, Option.getD_some, Option.getD_none, lc_gt, lc_lt, lc_eq, mt_1036a hM, mt_1119a hM, mt_1119b hM, mf_116 hM, e, ea, eb, c_335 hM1 e1, e2, g])
  · by_cases g : b < a <;> simp only [g, if_true, if_false] <;> (apply CT_iff; apply CT_of; rw [wpC_B]; refine ⟨⟨Nat.zero_lt_succ _, Nat.le_of_ble_eq_true rfl⟩, ?_⟩; simp only [lent]; simp (disch := omega) only [q_337_0, b_337_0, q_337_206, b_337_206, q_337_218, b_337_218, q_337_219, b_337_219, q_337_273, b_337_273, ↓w_iconst, ↓w_lconst, ↓w_aload_n_0, ↓w_iload_n_1, ↓w_lload_n_2, ↓w_lload_4, ↓w_lstore, ↓w_lstore_n_2, ↓w_dup_i, ↓w_dup_a, ↓w_isub, ↓w_lcmp, ↓w_getfield, ↓w_putfield_0, ↓w_laload, ↓w_nop, ↓w_goto, ↓w_ifCond_le, ↓w_tableswitch, ↓w_return, ↓w_invokevirtual_1, stw_0, stw_i, stw_l, stw_r, ofK0, ofK1, ofK2, lst1, lst2, lkill, kont_none, kont_some, Int.reduceToNat, List.length_cons, List.length_nil, Nat.reduceAdd, Nat.reduceLeDiff, Nat.zero_le, true_and, and_true, if_true, if_false, ne_eq, Int.reduceEq, Int.reduceNeg, not_false_eq_true, not_true_eq_false, ↓reduceIte, Int.reduceLT, Int.reduceLE, and_self, or_true, true_or, or_false, false_or, false_and, and_false, ah_t_w, ah_m_w, ah_n_w, lst1_0, List.tail_cons, w32_i, zbd, lst2_0, asc, Option.getD_some, Option.getD_none, lc_gt, lc_lt, lc_eq, mt_1036a hM, mt_1119a hM, mt_1119b hM, mf_116 hM, e, ea, eb, c_335 hM1 e1, e2, g])
  · by_cases g : a = b <;> simp only [g, if_true, if_false] <;> (apply CT_iff; apply CT_of; rw [wpC_B]; refine ⟨⟨Nat.zero_lt_succ _, Nat.le_of_ble_eq_true rfl⟩, ?_⟩; simp only [lent]; simp (disch := omega) only [q_337_0, b_337_0, q_337_225, b_337_225, q_337_237, b_337_237, q_337_238, b_337_238, q_337_273, b_337_273, ↓w_iconst, ↓w_lconst, ↓w_aload_n_0, ↓w_iload_n_1, ↓w_lload_n_2, ↓w_lload_4, ↓w_lstore, ↓w_lstore_n_2, ↓w_dup_i, ↓w_dup_a, ↓w_isub, ↓w_lcmp, ↓w_getfield, ↓w_putfield_0, ↓w_laload, ↓w_nop, ↓w_goto, ↓w_ifCond_ne, ↓w_tableswitch, ↓w_return, ↓w_invokevirtual_1, stw_0, stw_i, stw_l, stw_r, ofK0, ofK1, ofK2, lst1, lst2, lkill, kont_none, kont_some, Int.reduceToNat, List.length_cons, List.length_nil, Nat.reduceAdd, Nat.reduceLeDiff, Nat.zero_le, true_and, and_true, if_true, if_false, ne_eq, Int.reduceEq, Int.reduceNeg, not_false_eq_true, not_true_eq_false, ↓reduceIte, Int.reduceLT, Int.reduceLE, and_self, or_true, true_or, or_false, false_or, false_and, and_false, ah_t_w, ah_m_w, ah_n_w, lst1_0, List.tail_cons, w32_i, zbd, lst2_0, asc, Option.getD_some, Option.getD_none, lc_gt, lc_lt, lc_eq, mt_1036a hM, mt_1119a hM, mt_1119b hM, mf_116 hM, e, ea, eb, c_335 hM1 e1, e2, g])
  · apply CT_iff; apply CT_of; rw [wpC_B]; refine ⟨⟨Nat.zero_lt_succ _, Nat.le_of_ble_eq_true rfl⟩, ?_⟩; simp only [lent]
    simp (disch := omega) only [q_337_0, b_337_0, q_337_244, b_337_244, q_337_273, b_337_273, ↓w_iconst, ↓w_aload_n_0, ↓w_iload_n_1, ↓w_lload_n_2, ↓w_lload_4, ↓w_lstore, ↓w_lstore_n_2, ↓w_dup_i, ↓w_dup_a, ↓w_isub, ↓w_lmul, ↓w_getfield, ↓w_putfield_0, ↓w_laload, ↓w_goto, ↓w_tableswitch, ↓w_return, ↓w_invokevirtual_1, stw_0, stw_i, stw_l, stw_r, ofK0, ofK1, ofK2, lst1, lst2, lkill, kont_none, kont_some, Int.reduceToNat, List.length_cons, List.length_nil, Nat.reduceAdd, Nat.reduceLeDiff, Nat.zero_le, true_and, and_true, if_true, if_false, ne_eq, Int.reduceEq, Int.reduceNeg, not_false_eq_true, not_true_eq_false, ↓reduceIte, Int.reduceLT, Int.reduceLE, and_self, or_true, true_or, or_false, false_or, false_and, and_false, ah_t_w, ah_m_w, ah_n_w, lst1_0, List.tail_cons, w32_i, zbd, lst2_0, asc, Option.getD_some, Option.getD_none, mt_1036a hM, mt_1119a hM, mt_1119b hM, mf_116 hM, e, ea, eb, f3, c_335 hM1 e1, e2]
  · by_cases g : 0 < a + b <;> simp only [g, if_true, if_false] <;> (apply CT_iff; apply CT_of; rw [wpC_B]; refine ⟨⟨Nat.zero_lt_succ _, Nat.le_of_ble_eq_true rfl⟩, ?_⟩; simp only [lent]; simp (disch := omega) only [q_337_0, b_337_0, q_337_255, b_337_255, q_337_269, b_337_269, q_337_270, b_337_270, q_337_273, b_337_273, ↓w_iconst, ↓w_lconst, ↓w_aload_n_0, ↓w_iload_n_1, ↓w_lload_n_2, ↓w_lload_4, ↓w_lstore, ↓w_lstore_n_2, ↓w_dup_i, ↓w_dup_a, ↓w_isub, ↓w_ladd, ↓w_lcmp, ↓w_getfield, ↓w_putfield_0, ↓w_laload, ↓w_nop, ↓w_goto, ↓w_ifCond_le, ↓w_tableswitch, ↓w_return, ↓w_invokevirtual_1, stw_0, stw_i, stw_l, stw_r, ofK0, ofK1, ofK2, lst1, lst2, lkill, kont_none, kont_some, Int.reduceToNat, List.length_cons, List.length_nil, Nat.reduceAdd, Nat.reduceLeDiff, Nat.zero_le, true_and, and_true, if_true, if_false, ne_eq, Int.reduceEq, Int.reduceNeg, not_false_eq_true, not_true_eq_false, ↓reduceIte, Int.reduceLT, Int.reduceLE, and_self, or_true, true_or, or_false, false_or, false_and, and_false, ah_t_w, ah_m_w, ah_n_w, lst1_0, List.tail_cons, w32_i, zbd, lst2_0, asc, Option.getD_some, Option.getD_none, lc_gt, lc_lt, lc_eq, mt_1036a hM, mt_1119a hM, mt_1119b hM, mf_116 hM, e, ea, eb, f1, c_335 hM1 e1, e2, g])
theorem c_336 (hG : MG T nw h) (h1 : 0 ≤ m) (h2 : m < 8) (hw : 0 ≤ w ∧ w ≤ 10) : wpC (d + 3) 336 [.inr (.inr 1036), .inl w, .inl m] h Q ↔ Q (.inl (some (.inr (.inl (zpt h T nw m w))))) h := by
  have hk := (hG.2.2.2.1.2.2.2.2.2.1 m h1 h2).1
  have : w = 0 ∨ w = 1 ∨ w = 2 ∨ w = 3 ∨ w = 4 ∨ w = 5 ∨ w = 6 ∨ w = 7 ∨ w = 8 ∨ w = 9 ∨ w = 10 := by omega
  rcases this with g | g | g | g | g | g | g | g | g | g | g <;> subst g <;> simp only [zpt, Int.reduceEq, if_true, if_false]
  · apply CT_iff; apply CT_of; rw [wpC_B]; refine ⟨⟨Nat.zero_lt_succ _, Nat.le_of_ble_eq_true rfl⟩, ?_⟩; simp only [lent]
    simp (disch := omega) only [q_336_0, b_336_0, q_336_56, b_336_56, ↓w_aload_n_0, ↓w_iload_n_1, ↓w_getfield, ↓w_tableswitch, ↓w_lreturn, stw_0, stw_i, stw_l, stw_r, ofK0, ofK1, ofK2, lst1, lst2, lkill, kont_none, kont_some, Int.reduceToNat, List.length_cons, List.length_nil, Nat.reduceAdd, Nat.reduceLeDiff, Nat.zero_le, true_and, and_true, if_true, if_false, ne_eq, Int.reduceEq, Int.reduceNeg, not_false_eq_true, not_true_eq_false, ↓reduceIte, Int.reduceLT, Int.reduceLE, and_self, or_true, true_or, or_false, false_or, false_and, and_false, ah_t_w, ah_m_w, ah_n_w, lst1_0, List.tail_cons, w32_i, zbd, lst2_0, asc, Option.getD_some, Option.getD_none, mt_1036a hG.1, mt_1117a hG.1, mt_1117b hG.1, mf_110 hG.1]
  · apply CT_iff; apply CT_of; rw [wpC_B]; refine ⟨⟨Nat.zero_lt_succ _, Nat.le_of_ble_eq_true rfl⟩, ?_⟩; simp only [lent]
    simp (disch := omega) only [q_336_0, b_336_0, q_336_61, b_336_61, ↓w_aload_n_0, ↓w_iload_n_1, ↓w_getfield, ↓w_tableswitch, ↓w_lreturn, stw_0, stw_i, stw_l, stw_r, ofK0, ofK1, ofK2, lst1, lst2, lkill, kont_none, kont_some, Int.reduceToNat, List.length_cons, List.length_nil, Nat.reduceAdd, Nat.reduceLeDiff, Nat.zero_le, true_and, and_true, if_true, if_false, ne_eq, Int.reduceEq, Int.reduceNeg, not_false_eq_true, not_true_eq_false, ↓reduceIte, Int.reduceLT, Int.reduceLE, and_self, or_true, true_or, or_false, false_or, false_and, and_false, ah_t_w, ah_m_w, ah_n_w, lst1_0, List.tail_cons, w32_i, zbd, lst2_0, asc, Option.getD_some, Option.getD_none, mt_1036a hG.1, mt_1117a hG.1, mt_1117b hG.1, mf_110 hG.1]
  · apply CT_iff; apply CT_of; rw [wpC_B]; refine ⟨⟨Nat.zero_lt_succ _, Nat.le_of_ble_eq_true rfl⟩, ?_⟩; simp only [lent]
    simp (disch := omega) only [q_336_0, b_336_0, q_336_66, b_336_66, ↓w_aload_n_0, ↓w_iload_n_1, ↓w_getfield, ↓w_tableswitch, ↓w_lreturn, stw_0, stw_i, stw_l, stw_r, ofK0, ofK1, ofK2, lst1, lst2, lkill, kont_none, kont_some, Int.reduceToNat, List.length_cons, List.length_nil, Nat.reduceAdd, Nat.reduceLeDiff, Nat.zero_le, true_and, and_true, if_true, if_false, ne_eq, Int.reduceEq, Int.reduceNeg, not_false_eq_true, not_true_eq_false, ↓reduceIte, Int.reduceLT, Int.reduceLE, and_self, or_true, true_or, or_false, false_or, false_and, and_false, ah_t_w, ah_m_w, ah_n_w, lst1_0, List.tail_cons, w32_i, zbd, lst2_0, asc, Option.getD_some, Option.getD_none, mt_1036a hG.1, mt_1117a hG.1, mt_1117b hG.1, mf_110 hG.1]
  · apply CT_iff; apply CT_of; rw [wpC_B]; refine ⟨⟨Nat.zero_lt_succ _, Nat.le_of_ble_eq_true rfl⟩, ?_⟩; simp only [lent]
    simp (disch := omega) only [q_336_0, b_336_0, q_336_71, b_336_71, ↓w_iconst, ↓w_aload_n_0, ↓w_iload_n_1, ↓w_i2l, ↓w_getfield, ↓w_iaload, ↓w_tableswitch, ↓w_lreturn, stw_0, stw_i, stw_l, stw_r, ofK0, ofK1, ofK2, lst1, lst2, lkill, kont_none, kont_some, Int.reduceToNat, List.length_cons, List.length_nil, Nat.reduceAdd, Nat.reduceLeDiff, Nat.zero_le, true_and, and_true, if_true, if_false, ne_eq, Int.reduceEq, Int.reduceNeg, not_false_eq_true, not_true_eq_false, ↓reduceIte, Int.reduceLT, Int.reduceLE, and_self, or_true, true_or, or_false, false_or, false_and, and_false, ah_t_w, ah_m_w, ah_n_w, lst1_0, List.tail_cons, w32_i, zbd, lst2_0, asc, Option.getD_some, Option.getD_none, mt_1036a hG.1, mt_1083a hG.1, mt_1083b hG.1, mf_62 hG.1, mt_1117a hG.1, mt_1117b hG.1, mf_110 hG.1, g_1083 hG]
  · apply CT_iff; apply CT_of; rw [wpC_B]; refine ⟨⟨Nat.zero_lt_succ _, Nat.le_of_ble_eq_true rfl⟩, ?_⟩; simp only [lent]
    simp (disch := omega) only [q_336_0, b_336_0, q_336_79, b_336_79, ↓w_iload_n_1, ↓w_iload_n_2, ↓w_i2l, ↓w_tableswitch, ↓w_lreturn, stw_0, stw_i, stw_l, stw_r, ofK0, ofK1, ofK2, lst1, lst2, lkill, kont_none, kont_some, Int.reduceToNat, List.length_cons, List.length_nil, Nat.reduceAdd, Nat.reduceLeDiff, Nat.zero_le, true_and, and_true, if_true, if_false, ne_eq, Int.reduceEq, Int.reduceNeg, not_false_eq_true, not_true_eq_false, ↓reduceIte, Int.reduceLT, Int.reduceLE, and_self, or_true, true_or, or_false, false_or, false_and, and_false, ah_t_w, ah_m_w, ah_n_w, lst1_0, List.tail_cons, w32_i, zbd, lst2_0, asc, Option.getD_some, Option.getD_none, mt_1036a hG.1, mt_1117a hG.1, mt_1117b hG.1, mf_110 hG.1]
  · apply CT_iff; apply CT_of; rw [wpC_B]; refine ⟨⟨Nat.zero_lt_succ _, Nat.le_of_ble_eq_true rfl⟩, ?_⟩; simp only [lent]
    simp (disch := omega) only [q_336_0, b_336_0, q_336_82, b_336_82, ↓w_aload_n_0, ↓w_iload_n_1, ↓w_iload_n_2, ↓w_i2l, ↓w_tableswitch, ↓w_lreturn, ↓w_invokevirtual_1, stw_0, stw_i, stw_l, stw_r, ofK0, ofK1, ofK2, lst1, lst2, lkill, kont_none, kont_some, Int.reduceToNat, List.length_cons, List.length_nil, Nat.reduceAdd, Nat.reduceLeDiff, Nat.zero_le, true_and, and_true, if_true, if_false, ne_eq, Int.reduceEq, Int.reduceNeg, not_false_eq_true, not_true_eq_false, ↓reduceIte, Int.reduceLT, Int.reduceLE, and_self, or_true, true_or, or_false, false_or, false_and, and_false, ah_t_w, ah_m_w, ah_n_w, lst1_0, List.tail_cons, w32_i, zbd, lst2_0, asc, Option.getD_some, Option.getD_none, mt_1036a hG.1, mt_1117a hG.1, mt_1117b hG.1, mf_110 hG.1, c_285 hG]
  · apply CT_iff; apply CT_of; rw [wpC_B]; refine ⟨⟨Nat.zero_lt_succ _, Nat.le_of_ble_eq_true rfl⟩, ?_⟩; simp only [lent]
    simp (disch := omega) only [q_336_0, b_336_0, q_336_89, b_336_89, ↓w_aload_n_0, ↓w_iload_n_1, ↓w_iload_n_2, ↓w_i2l, ↓w_tableswitch, ↓w_lreturn, ↓w_invokevirtual_1, stw_0, stw_i, stw_l, stw_r, ofK0, ofK1, ofK2, lst1, lst2, lkill, kont_none, kont_some, Int.reduceToNat, List.length_cons, List.length_nil, Nat.reduceAdd, Nat.reduceLeDiff, Nat.zero_le, true_and, and_true, if_true, if_false, ne_eq, Int.reduceEq, Int.reduceNeg, not_false_eq_true, not_true_eq_false, ↓reduceIte, Int.reduceLT, Int.reduceLE, and_self, or_true, true_or, or_false, false_or, false_and, and_false, ah_t_w, ah_m_w, ah_n_w, lst1_0, List.tail_cons, w32_i, zbd, lst2_0, asc, Option.getD_some, Option.getD_none, mt_1036a hG.1, mt_1117a hG.1, mt_1117b hG.1, mf_110 hG.1, c_292 hG]
  · apply CT_iff; apply CT_of; rw [wpC_B]; refine ⟨⟨Nat.zero_lt_succ _, Nat.le_of_ble_eq_true rfl⟩, ?_⟩; simp only [lent]
    simp (disch := omega) only [q_336_0, b_336_0, q_336_96, b_336_96, ↓w_aload_n_0, ↓w_iload_n_1, ↓w_iload_n_2, ↓w_i2l, ↓w_tableswitch, ↓w_lreturn, ↓w_invokevirtual_1, stw_0, stw_i, stw_l, stw_r, ofK0, ofK1, ofK2, lst1, lst2, lkill, kont_none, kont_some, Int.reduceToNat, List.length_cons, List.length_nil, Nat.reduceAdd, Nat.reduceLeDiff, Nat.zero_le, true_and, and_true, if_true, if_false, ne_eq, Int.reduceEq, Int.reduceNeg, not_false_eq_true, not_true_eq_false, ↓reduceIte, Int.reduceLT, Int.reduceLE, and_self, or_true, true_or, or_false, false_or, false_and, and_false, ah_t_w, ah_m_w, ah_n_w, lst1_0, List.tail_cons, w32_i, zbd, lst2_0, asc, Option.getD_some, Option.getD_none, mt_1036a hG.1, mt_1117a hG.1, mt_1117b hG.1, mf_110 hG.1, c_287 hG]
  · apply CT_iff; apply CT_of; rw [wpC_B]; refine ⟨⟨Nat.zero_lt_succ _, Nat.le_of_ble_eq_true rfl⟩, ?_⟩; simp only [lent]
    simp (disch := omega) only [q_336_0, b_336_0, q_336_103, b_336_103, ↓w_aload_n_0, ↓w_iload_n_1, ↓w_iload_n_2, ↓w_i2l, ↓w_tableswitch, ↓w_lreturn, ↓w_invokevirtual_1, stw_0, stw_i, stw_l, stw_r, ofK0, ofK1, ofK2, lst1, lst2, lkill, kont_none, kont_some, Int.reduceToNat, List.length_cons, List.length_nil, Nat.reduceAdd, Nat.reduceLeDiff, Nat.zero_le, true_and, and_true, if_true, if_false, ne_eq, Int.reduceEq, Int.reduceNeg, not_false_eq_true, not_true_eq_false, ↓reduceIte, Int.reduceLT, Int.reduceLE, and_self, or_true, true_or, or_false, false_or, false_and, and_false, ah_t_w, ah_m_w, ah_n_w, lst1_0, List.tail_cons, w32_i, zbd, lst2_0, asc, Option.getD_some, Option.getD_none, mt_1036a hG.1, mt_1117a hG.1, mt_1117b hG.1, mf_110 hG.1, c_315 hG]
  · apply CT_iff; apply CT_of; rw [wpC_B]; refine ⟨⟨Nat.zero_lt_succ _, Nat.le_of_ble_eq_true rfl⟩, ?_⟩; simp only [lent]
    simp (disch := omega) only [q_336_0, b_336_0, q_336_110, b_336_110, ↓w_iconst, ↓w_bipush, ↓w_aload_n_0, ↓w_iload_n_1, ↓w_iload_n_2, ↓w_iadd, ↓w_imul, ↓w_i2l, ↓w_getfield, ↓w_iaload, ↓w_tableswitch, ↓w_lreturn, ↓w_invokevirtual_1, stw_0, stw_i, stw_l, stw_r, ofK0, ofK1, ofK2, lst1, lst2, lkill, kont_none, kont_some, Int.reduceToNat, List.length_cons, List.length_nil, Nat.reduceAdd, Nat.reduceLeDiff, Nat.zero_le, true_and, and_true, if_true, if_false, ne_eq, Int.reduceEq, Int.reduceNeg, not_false_eq_true, not_true_eq_false, ↓reduceIte, Int.reduceLT, Int.reduceLE, and_self, or_true, true_or, or_false, false_or, false_and, and_false, ah_t_w, ah_m_w, ah_n_w, lst1_0, List.tail_cons, w32_i, zbd, lst2_0, asc, Option.getD_some, Option.getD_none, mt_1036a hG.1, mt_1075a hG.1, mt_1075b hG.1, mf_48 hG.1, mt_1117a hG.1, mt_1117b hG.1, mf_110 hG.1, g_1075 hG, c_283 hG]
  · apply CT_iff; apply CT_of; rw [wpC_B]; refine ⟨⟨Nat.zero_lt_succ _, Nat.le_of_ble_eq_true rfl⟩, ?_⟩; simp only [lent]
    simp (disch := omega) only [q_336_0, b_336_0, q_336_127, b_336_127, ↓w_aload_n_0, ↓w_iload_n_1, ↓w_iload_n_2, ↓w_i2l, ↓w_getfield, ↓w_iaload, ↓w_tableswitch, ↓w_lreturn, stw_0, stw_i, stw_l, stw_r, ofK0, ofK1, ofK2, lst1, lst2, lkill, kont_none, kont_some, Int.reduceToNat, List.length_cons, List.length_nil, Nat.reduceAdd, Nat.reduceLeDiff, Nat.zero_le, true_and, and_true, if_true, if_false, ne_eq, Int.reduceEq, Int.reduceNeg, not_false_eq_true, not_true_eq_false, ↓reduceIte, Int.reduceLT, Int.reduceLE, and_self, or_true, true_or, or_false, false_or, false_and, and_false, ah_t_w, ah_m_w, ah_n_w, lst1_0, List.tail_cons, w32_i, zbd, lst2_0, asc, Option.getD_some, Option.getD_none, mt_1036a hG.1, mt_1089a hG.1, mt_1089b hG.1, mf_74 hG.1, mt_1117a hG.1, mt_1117b hG.1, mf_110 hG.1]
/-! harm -/
def zcl (f : Int → Int) : Nat → Int → List Int
  | 0, _ => []
  | j + 1, k => f k :: zcl f j (k + 1)
def zhl (T : Int → Int → Int) : List Int := zcl (fun k => T 1082 (1600 + k)) (T 1081 1 - T 1080 1).toNat (T 1080 1)
def zhp (t ck o day : Int) (j : Int) : Int := if j = 0 then t else if j = 1 then ck else if j = 2 then o else day
def HV (T : Int → Int → Int) : Prop := T 1080 1 = -1 ∨ (0 ≤ T 1080 1 ∧ T 1080 1 ≤ T 1081 1 ∧ T 1081 1 ≤ 1600 ∧ ztl true (zhl T) [] = some [false])
def ztop : List Int → Int
  | x :: _ => x
  | [] => 0
def zharm (T : Int → Int → Int) (t ck o day : Int) : Int := if T 1080 1 = -1 then t else if ztop (zrun (zhp t ck o day) (fun _ => 0) (zhl T) []) < 0 then 0 else ztop (zrun (zhp t ck o day) (fun _ => 0) (zhl T) [])
def Wp (r i : Int) : Prop := r = 1119 ∨ (r = 1036 ∧ i = 117)
theorem Wp_f {r i : Int} (w : Wp r i) : fre r i ∧ ¬ (1072 ≤ r ∧ r ≤ 1083) := by unfold Wp at w; unfold fre; omega
theorem Wq_f {r i : Int} (w : Wq r i) : fre r i ∧ ¬ (1072 ≤ r ∧ r ≤ 1083) := by unfold Wq at w; unfold fre; omega
theorem Pil_w {r k v : Int} : ∀ {st : List Int}, Pil h st → (st.length ≤ k ∨ r ≠ 1119) → Pil (ah_w h r k v) st
  | [], _, _ => trivial
  | x :: st, hp, hk => by
    refine ⟨?_, Pil_w hp.2 (by simp at hk; omega)⟩
    rw [ah_m_w, if_neg (by simp at hk; omega)]; exact hp.1
theorem zfit_len : ∀ {st : List Int} {ts : List Bool}, zfit st ts → st.length = ts.length
  | [], [], _ => rfl
  | _ :: _, _ :: _, h => by simp [zfit_len h.2]
  | [], _ :: _, h => h.elim
  | _ :: _, [], h => h.elim
theorem l_334 {p : ALoc} {x1 y1 x2 y2 t ck o : Int} {h1 : AH} (hG : MG T nw h1) (e71 : ah_m h1 1036 71 = t) (e72 : ah_m h1 1036 72 = ck) (e73 : ah_m h1 1036 73 = o) (ht : 0 ≤ t ∧ t ≤ 1000) (hk : 0 ≤ ck ∧ ck ≤ 1) (ho : 0 ≤ o ∧ o ≤ 1000) (hd : 0 ≤ nw 0 ∧ nw 0 ≤ 5000) {R : Int} (hp : p = [some (.inr (.inr 1036)), some (.inl x1), some (.inl y1), some (.inl x2), some (.inl y2)])
    (hQ : ∀ h', MG T nw h' → Off Wp h1 h' → Q (.inl (some (.inr (.inl (if R < 0 then 0 else R))))) h') :
    ∀ (j : Nat) (k : Int) (st : List Int) ts tl h', 0 ≤ k → k + j = T 1081 1 → T 1081 1 ≤ 1600 → st.length + j ≤ 1600 → MG T nw h' → Off Wp h1 h' → ah_m h' 1036 117 = st.length → Pil h' st → zfit st ts → ztl true (zcl (fun k => T 1082 (1600 + k)) j k) ts = some [false] → ztop (zrun (zhp t ck o (nw 0)) (fun _ => 0) (zcl (fun k => T 1082 (1600 + k)) j k) st) = R → wpB (d + 4) 334 46 (p ++ some (.inl k) :: tl) [] h' Q := by
  subst hp
  simp only [List.cons_append, List.nil_append]
  intro j
  induction j with
  | zero =>
    intro k st ts tl h' k0 k1 k2 k3 hG' hO e117 hP hf ht hR
    have hlt : ¬ k < T 1081 1 := by omega
    simp only [zcl, ztl, zrun] at ht hR
    injection ht with ht
    subst ht
    match st, hf, hP, hR with
    | [v], hf, hP, hR =>
      have e0 : ah_m h' 1119 0 = v := hP.1
      have e1 : v = R := hR
      subst e1
      have hq := hQ _ hG' hO
      by_cases g : v < 0
      · rw [if_pos g] at hq
        simp (disch := omega) only [q_334_46, b_334_46, q_334_128, b_334_128, q_334_143, b_334_143, q_334_149, b_334_149, ↓w_iconst, ↓w_sipush, ↓w_lconst, ↓w_aload_n_0, ↓w_iload_5, ↓w_iload_6, ↓w_istore, ↓w_iadd, ↓w_isub, ↓w_lcmp, ↓w_i2l, ↓w_getfield, ↓w_iaload, ↓w_laload, ↓w_nop, ↓w_goto, ↓w_if_icmp_lt, ↓w_ifCond_ge, ↓w_if_icmp_ge, ↓w_lreturn, ↓w_invokevirtual_1, stw_0, stw_i, stw_l, stw_r, ofK0, ofK1, ofK2, lst1, lst2, lkill, kont_none, kont_some, Int.reduceToNat, List.length_cons, List.length_nil, Nat.reduceAdd, Nat.reduceLeDiff, Nat.zero_le, true_and, and_true, if_true, if_false, ne_eq, Int.reduceEq, Int.reduceNeg, not_false_eq_true, not_true_eq_false, ↓reduceIte, Int.reduceLT, Int.reduceLE, and_self, or_true, true_or, or_false, false_or, false_and, and_false, ah_t_w, ah_m_w, ah_n_w, lst1_0, List.tail_cons, w32_i, zbd, lst2_0, lc_gt, lc_lt, lc_eq, mt_1036a hG'.1, mt_1081a hG'.1, mt_1081b hG'.1, mf_54 hG'.1, mt_1082a hG'.1, mt_1082b hG'.1, mf_55 hG'.1, mt_1119a hG'.1, mt_1119b hG'.1, mf_116 hG'.1, g_1081 hG', g_1082 hG', g_1081 hG', hlt, e0, g]
        exact hq
      · rw [if_neg g] at hq
        simp (disch := omega) only [q_334_46, b_334_46, q_334_128, b_334_128, q_334_143, b_334_143, q_334_149, b_334_149, ↓w_iconst, ↓w_sipush, ↓w_lconst, ↓w_aload_n_0, ↓w_iload_5, ↓w_iload_6, ↓w_istore, ↓w_iadd, ↓w_isub, ↓w_lcmp, ↓w_i2l, ↓w_getfield, ↓w_iaload, ↓w_laload, ↓w_nop, ↓w_goto, ↓w_if_icmp_lt, ↓w_ifCond_ge, ↓w_if_icmp_ge, ↓w_lreturn, ↓w_invokevirtual_1, stw_0, stw_i, stw_l, stw_r, ofK0, ofK1, ofK2, lst1, lst2, lkill, kont_none, kont_some, Int.reduceToNat, List.length_cons, List.length_nil, Nat.reduceAdd, Nat.reduceLeDiff, Nat.zero_le, true_and, and_true, if_true, if_false, ne_eq, Int.reduceEq, Int.reduceNeg, not_false_eq_true, not_true_eq_false, ↓reduceIte, Int.reduceLT, Int.reduceLE, and_self, or_true, true_or, or_false, false_or, false_and, and_false, ah_t_w, ah_m_w, ah_n_w, lst1_0, List.tail_cons, w32_i, zbd, lst2_0, lc_gt, lc_lt, lc_eq, mt_1036a hG'.1, mt_1081a hG'.1, mt_1081b hG'.1, mf_54 hG'.1, mt_1082a hG'.1, mt_1082b hG'.1, mf_55 hG'.1, mt_1119a hG'.1, mt_1119b hG'.1, mf_116 hG'.1, g_1081 hG', g_1082 hG', g_1081 hG', hlt, e0, g]
        exact hq
  | succ j ih =>
    intro k st ts tl h' k0 k1 k2 k3 hG' hO e117 hP hf ht hR
    have hlt : k < T 1081 1 := by omega
    have hM' := hG'.1
    simp only [zcl, ztl] at ht
    simp only [zcl, zrun] at hR
    generalize ec : T 1082 (1600 + k) = c at ht hR
    cases et : zty true c ts with
    | none => rw [et] at ht; cases ht
    | some ts' =>
      rw [et] at ht
      simp only at ht
      have hf' : zfit (zst (zhp t ck o (nw 0)) (fun _ => 0) c st) ts' := zst_fit hf et
      have hw1 : ∀ v h'', Off Wp h1 h'' → MG T nw h'' → Off Wp h1 (ah_w h'' 1119 v c) := fun v h'' a b => Off_w a (by unfold Wp; omega)
      have push : ∀ v, zst (zhp t ck o (nw 0)) (fun _ => 0) c st = v :: st → wpB (d + 4) 334 122 (some (.inr (.inr 1036)) :: some (.inl x1) :: some (.inl y1) :: some (.inl x2) :: some (.inl y2) :: some (.inl k) :: some (.inl c) :: tl.tail) [] (ah_w (ah_w h' 1119 st.length v) 1036 117 (st.length + 1)) Q := by
        intro v ev
        rw [ev] at hf' hR
        simp (disch := omega) only [q_334_122, b_334_122, ↓w_iinc_5, ↓w_goto, stw_0, stw_i, stw_l, stw_r, ofK0, ofK1, ofK2, lst1, lst2, lkill, kont_none, kont_some, Int.reduceToNat, List.length_cons, List.length_nil, Nat.reduceAdd, Nat.reduceLeDiff, Nat.zero_le, true_and, and_true, if_true, if_false, ne_eq, Int.reduceEq, Int.reduceNeg, not_false_eq_true, not_true_eq_false, ↓reduceIte, Int.reduceLT, Int.reduceLE, and_self, or_true, true_or, or_false, false_or, false_and, and_false, ah_t_w, ah_m_w, ah_n_w, lst1_0, List.tail_cons, w32_i, zbd, lst2_0]
        refine ih (k + 1) (v :: st) ts' _ _ (by omega) (by omega) k2 (by simp; omega) (MG_w (MG_w hG' (by unfold fre; omega)) (by unfold fre; omega)) (Off_w (Off_w hO (by unfold Wp; omega)) (by unfold Wp; omega)) ?_ ⟨?_, ?_⟩ hf' ht hR
        · rw [ah_m_w, if_pos ⟨rfl, rfl⟩]; simp
        · rw [ah_m_w, if_neg (by omega), ah_m_w, if_pos ⟨rfl, rfl⟩]
        · exact Pil_w (Pil_w hP (by omega)) (by omega)
      rw [q_334_46]
      unfold zty at et
      by_cases g1 : 1000 ≤ c
      · rw [if_pos g1] at et
        have g1' : ¬ c < 1000 := by omega
        have g1'' : c ≤ 10999 := by
          by_cases q : c ≤ 10999
          · exact q
          · rw [if_neg q] at et; cases et
        simp (disch := omega) only [b_334_46, ↓w_iconst, ↓w_sipush, ↓w_aload_n_0, ↓w_iload_5, ↓w_iload_6, ↓w_istore, ↓w_iadd, ↓w_isub, ↓w_i2l, ↓w_getfield, ↓w_iaload, ↓w_goto, ↓w_if_icmp_lt, ↓w_if_icmp_ge, ↓w_invokevirtual_1, stw_0, stw_i, stw_l, stw_r, ofK0, ofK1, ofK2, lst1, lst2, lkill, kont_none, kont_some, Int.reduceToNat, List.length_cons, List.length_nil, Nat.reduceAdd, Nat.reduceLeDiff, Nat.zero_le, true_and, and_true, if_true, if_false, ne_eq, Int.reduceEq, Int.reduceNeg, not_false_eq_true, not_true_eq_false, ↓reduceIte, Int.reduceLT, Int.reduceLE, and_self, or_true, true_or, or_false, false_or, false_and, and_false, ah_t_w, ah_m_w, ah_n_w, lst1_0, List.tail_cons, w32_i, zbd, lst2_0, mt_1036a hG'.1, mt_1081a hG'.1, mt_1081b hG'.1, mf_54 hG'.1, mt_1082a hG'.1, mt_1082b hG'.1, mf_55 hG'.1, g_1081 hG', g_1082 hG', hlt, ec, g1', c_335 hM' e117]
        refine push _ ?_
        unfold zst; rw [if_pos g1]
      · rw [if_neg g1] at et
        have g1' : c < 1000 := by omega
        by_cases g2 : 60 ≤ c
        · rw [if_pos g2] at et
          rw [if_neg (by simp)] at et; cases et
        · rw [if_neg g2] at et
          by_cases g3 : 40 ≤ c
          · rw [if_pos g3] at et
            have g3' : ¬ c < 40 := by omega
            have g4 : c ≤ 43 := by
              by_cases q : c ≤ 43
              · exact q
              · rw [if_neg (by simp; omega)] at et; cases et
            simp (disch := omega) only [b_334_46, q_334_92, b_334_92, ↓w_iconst, ↓w_bipush, ↓w_sipush, ↓w_aload_n_0, ↓w_iload_5, ↓w_iload_6, ↓w_istore, ↓w_iadd, ↓w_isub, ↓w_i2l, ↓w_getfield, ↓w_iaload, ↓w_goto, ↓w_if_icmp_lt, ↓w_if_icmp_ge, ↓w_invokevirtual_1, ↓w_invokevirtual_2, stw_0, stw_i, stw_l, stw_r, ofK0, ofK1, ofK2, lst1, lst2, lkill, kont_none, kont_some, Int.reduceToNat, List.length_cons, List.length_nil, Nat.reduceAdd, Nat.reduceLeDiff, Nat.zero_le, true_and, and_true, if_true, if_false, ne_eq, Int.reduceEq, Int.reduceNeg, not_false_eq_true, not_true_eq_false, ↓reduceIte, Int.reduceLT, Int.reduceLE, and_self, or_true, true_or, or_false, false_or, false_and, and_false, ah_t_w, ah_m_w, ah_n_w, lst1_0, List.tail_cons, w32_i, zbd, lst2_0, mt_1036a hG'.1, mt_1081a hG'.1, mt_1081b hG'.1, mf_54 hG'.1, mt_1082a hG'.1, mt_1082b hG'.1, mf_55 hG'.1, g_1081 hG', g_1082 hG', hlt, ec, g1', g3', c_336 hG', c_335 hM' e117]
            refine push _ ?_
            have f71 : ah_m h' 1036 71 = t := by rw [hO.2 _ _ (by unfold Wp; omega)]; exact e71
            have f72 : ah_m h' 1036 72 = ck := by rw [hO.2 _ _ (by unfold Wp; omega)]; exact e72
            have f73 : ah_m h' 1036 73 = o := by rw [hO.2 _ _ (by unfold Wp; omega)]; exact e73
            have hz : zpt h' T nw 0 (c - 40) = zhp t ck o (nw 0) (c - 40) := by
              have : c = 40 ∨ c = 41 ∨ c = 42 ∨ c = 43 := by omega
              rcases this with g | g | g | g <;> subst g <;> simp [zpt, zhp, f71, f72, f73]
            have hb : -1000000 ≤ zhp t ck o (nw 0) (c - 40) ∧ zhp t ck o (nw 0) (c - 40) ≤ 1000000 := by
              unfold zhp; split; omega; split; omega; split <;> omega
            unfold zst
            rw [if_neg g1, if_neg g2, if_pos g3, zclip_i hb.1 hb.2, hz]
          · rw [if_neg g3] at et
            have g3' : c < 40 := by omega
            have g5 : ¬ 6 < c := by
              intro q
              rw [if_pos ⟨rfl, q⟩] at et; cases et
            rw [if_neg (fun q => g5 q.2), if_neg (by omega), if_neg (by omega)] at et
            have g6 : 1 ≤ c ∧ c ≤ 6 := by
              by_cases q : 1 ≤ c ∧ c ≤ 6
              · exact q
              · rw [if_neg q, if_neg (by omega), if_neg (by omega)] at et; cases et
            rw [if_pos g6] at et
            match ts, st, hf, hP, et with
            | false :: false :: ts, b :: a :: st, hf, hP, et =>
              have hb : -1000000 ≤ b ∧ b ≤ 1000000 := by simpa using hf.1
              have ha : -1000000 ≤ a ∧ a ≤ 1000000 := by simpa using hf.2.1
              have e117' : ah_m h' 1036 117 = (st.length : Int) + 2 := by rw [e117]; simp; omega
              have eb : ah_m h' 1119 ((st.length : Int) + 2 - 1) = b := by
                have := hP.1
                simp at this
                have q : (st.length : Int) + 2 - 1 = (st.length : Int) + 1 := by omega
                rw [q]; exact this
              have ea : ah_m h' 1119 ((st.length : Int) + 2 - 2) = a := by
                have q : (st.length : Int) + 2 - 2 = (st.length : Int) := by omega
                rw [q]; exact hP.2.1
              simp only [List.length_cons] at k3
              simp (disch := omega) only [b_334_46, q_334_92, b_334_92, q_334_116, b_334_116, ↓w_iconst, ↓w_bipush, ↓w_sipush, ↓w_aload_n_0, ↓w_iload_5, ↓w_iload_6, ↓w_istore, ↓w_iadd, ↓w_isub, ↓w_i2l, ↓w_getfield, ↓w_iaload, ↓w_nop, ↓w_goto, ↓w_if_icmp_lt, ↓w_if_icmp_ge, ↓w_invokevirtual_1, ↓w_invokevirtual_2, stw_0, stw_i, stw_l, stw_r, ofK0, ofK1, ofK2, lst1, lst2, lkill, kont_none, kont_some, Int.reduceToNat, List.length_cons, List.length_nil, Nat.reduceAdd, Nat.reduceLeDiff, Nat.zero_le, true_and, and_true, if_true, if_false, ne_eq, Int.reduceEq, Int.reduceNeg, not_false_eq_true, not_true_eq_false, ↓reduceIte, Int.reduceLT, Int.reduceLE, and_self, or_true, true_or, or_false, false_or, false_and, and_false, ah_t_w, ah_m_w, ah_n_w, lst1_0, List.tail_cons, w32_i, zbd, lst2_0, mt_1036a hG'.1, mt_1081a hG'.1, mt_1081b hG'.1, mf_54 hG'.1, mt_1082a hG'.1, mt_1082b hG'.1, mf_55 hG'.1, g_1081 hG', g_1082 hG', hlt, ec, g1', g3', c_337 (c := c) hM' e117' (by omega) (by omega) eb ea ha hb (by omega)]
              simp (disch := omega) only [q_334_122, b_334_122, ↓w_iinc_5, ↓w_goto, stw_0, stw_i, stw_l, stw_r, ofK0, ofK1, ofK2, lst1, lst2, lkill, kont_none, kont_some, Int.reduceToNat, List.length_cons, List.length_nil, Nat.reduceAdd, Nat.reduceLeDiff, Nat.zero_le, true_and, and_true, if_true, if_false, ne_eq, Int.reduceEq, Int.reduceNeg, not_false_eq_true, not_true_eq_false, ↓reduceIte, Int.reduceLT, Int.reduceLE, and_self, or_true, true_or, or_false, false_or, false_and, and_false, ah_t_w, ah_m_w, ah_n_w, lst1_0, List.tail_cons, w32_i, zbd, lst2_0]
              have ez : zst (zhp t ck o (nw 0)) (fun _ => 0) c (b :: a :: st) = zjo c a b :: st := by
                unfold zst; rw [if_neg g1, if_neg g2, if_neg g3, if_neg (by omega), if_neg (by omega)]
              rw [ez] at hf' hR
              refine ih (k + 1) (zjo c a b :: st) ts' _ _ (by omega) (by omega) k2 (by simp; omega) (MG_w (MG_w (MG_w hG' (by unfold fre; omega)) (by unfold fre; omega)) (by unfold fre; omega)) (Off_w (Off_w (Off_w hO (by unfold Wp; omega)) (by unfold Wp; omega)) (by unfold Wp; omega)) ?_ ⟨?_, ?_⟩ hf' ht hR
              · rw [ah_m_w, if_pos ⟨rfl, rfl⟩]; simp; omega
              · rw [ah_m_w, if_neg (by omega), ah_m_w, if_pos ⟨rfl, by omega⟩]
              · exact Pil_w (Pil_w (Pil_w hP.2.2 (by omega)) (by omega)) (by omega)
theorem zoff_b {x1 y1 x2 y2 : Int} (h1 : -1 ≤ x1 ∧ x1 ≤ 10) (h2 : -1 ≤ y1 ∧ y1 ≤ 10) (h3 : -1 ≤ x2 ∧ x2 ≤ 10) (h4 : -1 ≤ y2 ∧ y2 ≤ 10) : 0 ≤ zoff x1 y1 x2 y2 ∧ zoff x1 y1 x2 y2 ≤ 1000 := by
  unfold zoff zabs; split <;> split <;> (try split) <;> omega
theorem c_334 {x1 y1 x2 y2 t ck : Int} (hG : MG T nw h) (hH : HV T) (e71 : ah_m h 1036 71 = t) (e72 : ah_m h 1036 72 = ck) (ht : 0 ≤ t ∧ t ≤ 1000) (hk : 0 ≤ ck ∧ ck ≤ 1) (hd : 0 ≤ nw 0 ∧ nw 0 ≤ 5000) (h1 : -1 ≤ x1 ∧ x1 ≤ 10) (h2 : -1 ≤ y1 ∧ y1 ≤ 10) (h3 : -1 ≤ x2 ∧ x2 ≤ 10) (h4 : -1 ≤ y2 ∧ y2 ≤ 10)
    (hQ : ∀ h', MG T nw h' → Off Wq h h' → Q (.inl (some (.inr (.inl (zharm T t ck (zoff x1 y1 x2 y2) (nw 0)))))) h') : wpC (d + 5) 334 [.inr (.inr 1036), .inl x1, .inl y1, .inl x2, .inl y2] h Q := by
  unfold zharm at hQ
  have ho := zoff_b h1 h2 h3 h4
  rw [wpC_B]; refine ⟨⟨Nat.zero_lt_succ _, Nat.le_of_ble_eq_true rfl⟩, ?_⟩; simp only [lent]
  by_cases e : T 1080 1 = -1
  · rw [if_pos e] at hQ
    simp (disch := omega) only [q_334_0, b_334_0, ↓w_iconst, ↓w_aload_n_0, ↓w_getfield, ↓w_iaload, ↓w_if_icmp_ne, ↓w_lreturn, stw_0, stw_i, stw_l, stw_r, ofK0, ofK1, ofK2, lst1, lst2, lkill, kont_none, kont_some, Int.reduceToNat, List.length_cons, List.length_nil, Nat.reduceAdd, Nat.reduceLeDiff, Nat.zero_le, true_and, and_true, if_true, if_false, ne_eq, Int.reduceEq, Int.reduceNeg, not_false_eq_true, not_true_eq_false, ↓reduceIte, Int.reduceLT, Int.reduceLE, and_self, or_true, true_or, or_false, false_or, false_and, and_false, ah_t_w, ah_m_w, ah_n_w, lst1_0, List.tail_cons, w32_i, zbd, lst2_0, mt_1036a hG.1, mt_1080a hG.1, mt_1080b hG.1, mf_53 hG.1, g_1080 hG, e, e71]
    exact hQ _ hG Off_rfl
  · rw [if_neg e] at hQ
    rcases hH with hH | hH
    · exact absurd hH e
    · simp (disch := omega) only [q_334_0, b_334_0, q_334_15, b_334_15, ↓w_iconst, ↓w_aload_n_0, ↓w_iload_n_1, ↓w_iload_n_2, ↓w_iload_n_3, ↓w_iload_4, ↓w_istore, ↓w_i2l, ↓w_getfield, ↓w_putfield_0, ↓w_putfield_1, ↓w_putfield_3, ↓w_iaload, ↓w_nop, ↓w_if_icmp_ne, ↓w_lreturn, ↓w_invokestatic_4, stw_0, stw_i, stw_l, stw_r, ofK0, ofK1, ofK2, lst1, lst2, lkill, kont_none, kont_some, Int.reduceToNat, List.length_cons, List.length_nil, Nat.reduceAdd, Nat.reduceLeDiff, Nat.zero_le, true_and, and_true, if_true, if_false, ne_eq, Int.reduceEq, Int.reduceNeg, not_false_eq_true, not_true_eq_false, ↓reduceIte, Int.reduceLT, Int.reduceLE, and_self, or_true, true_or, or_false, false_or, false_and, and_false, ah_t_w, ah_m_w, ah_n_w, lst1_0, List.tail_cons, w32_i, zbd, lst2_0, mt_1036a hG.1, mt_1080a hG.1, mt_1080b hG.1, mf_53 hG.1, g_1080 hG, k_293, e]
      refine l_334 (h1 := ah_w (ah_w (ah_w h 1036 73 (zoff x1 y1 x2 y2)) 1036 59 1) 1036 117 0) (MG_f (MG_f (MG_f hG (by omega)) (by omega)) (by omega)) ?_ ?_ ?_ ht hk ho hd rfl (fun h' a b => hQ h' a (Off_tr (Off_w (Off_w (Off_w Off_rfl ?_) ?_) ?_) (Off_mono (fun r i w => ?_) b))) (T 1081 1 - T 1080 1).toNat _ [] [] _ _ hH.1 (by omega) hH.2.2.1 (by simp; omega) (MG_f (MG_f (MG_f hG (by omega)) (by omega)) (by omega)) Off_rfl rfl trivial trivial hH.2.2.2 rfl
      · rw [ah_m_w, if_neg (by omega), ah_m_w, if_neg (by omega), ah_m_w, if_neg (by omega)]; exact e71
      · rw [ah_m_w, if_neg (by omega), ah_m_w, if_neg (by omega), ah_m_w, if_neg (by omega)]; exact e72
      · rw [ah_m_w, if_neg (by omega), ah_m_w, if_neg (by omega), ah_m_w, if_pos ⟨rfl, rfl⟩]
      · unfold Wq; omega
      · unfold Wq; omega
      · unfold Wq; omega
      · unfold Wp at w; unfold Wq; omega
end Q2
