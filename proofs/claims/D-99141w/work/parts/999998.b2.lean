/-! ===== X's reader: signs, numbers ===== -/
section B2
variable {W W' : Int → Int → Prop} {d : Nat} {h h' h1 h2 h0 : AH} {Q : QQ} {x y z m k s w a b c v n p r o i f N lo hi : Int} {S T T' : Int → Int → Int} {t nw nw' pt of tp : Int → Int} {tl : ALoc} {l : List Int}
set_option maxHeartbeats 4000000
theorem kont_0 {mm : Nat} {is : List AI} {L : ALoc} {st : AStk} : kont d mm is 0 L st Q (.inr z) h ↔ Q (.inr z) h := by rw [kont_thr, if_pos rfl]
def W12 (r i : Int) : Prop := r = 12 ∧ (i = 6 ∨ i = 7)
theorem W12_d : ∀ r i, W12 r i → Wrd r i := fun r i w => Or.inr w
theorem RX_12 (hR : RX t n k h) (hO : Off W12 h h') : RX t n k h' := RX_ext hR (Ext_off hO) (fun r i w => Wrd_x r i (W12_d r i w)) (by rw [hO.2 _ _ (by unfold W12; omega)]; exact hR.2.2.1) hR.2.2.2.2.2
theorem RX_at (hR : RX t n k h) (hv : 0 ≤ v ∧ v ≤ n) : RX t n v (ah_w h 11 2 v) ∧ Off Wr2 h (ah_w h 11 2 v) := by
  have hO : Off Wr2 h (ah_w h 11 2 v) := Off_w Off_rfl ⟨rfl, rfl⟩
  exact ⟨RX_ext hR (Ext_off hO) (fun r i w => Wrd_x r i (Wr2_d r i w)) (by rw [ah_m_w, if_pos ⟨rfl, rfl⟩]) hv, hO⟩
theorem RX_fr (hR : RX t n k h) (hi : i = 3 ∨ i = 4 ∨ i = 5 ∨ i = 6) : RX t n k (ah_w h 11 i v) ∧ Off (fun r j => r = 11 ∧ j = i) h (ah_w h 11 i v) := by
  have hO : Off (fun r j => r = 11 ∧ j = i) h (ah_w h 11 i v) := Off_w Off_rfl ⟨rfl, rfl⟩
  exact ⟨RX_ext hR (Ext_off hO) (fun r j w => by unfold fix isS isV; omega) (by rw [ah_m_w, if_neg (by omega)]; exact hR.2.2.1) hR.2.2.2.2.2, hO⟩
theorem c_177 (hR : RX t n k h) (hQ0 : ∀ h', zpd t n k = true → RX t n k h' → Off W12 h h' → BXx 1 k h' → Q (.inr 12) h') (hQ1 : zpd t n k = false → Q (.inl none) h) : wpC (d + 2) 177 [.inr (.inr 11)] h Q := by
  have hI := hR.1
  have e2 := hR.2.2.1
  have t11 := r_11 hI
  have hk := hR.2.2.2.2.2
  have n16 := hR.2.2.2.2.1.1.2
  have bad : zpd t n k = true → wpB (d + 1) 177 32 [some (.inr (.inr 11))] [] h Q := by
    intro e
    simp (disch := omega) only [q_177_32, b_177_32, ↓w_iconst, ↓w_aload_n_0, ↓w_getfield, ↓w_athrow, ↓w_invokevirtual_2, stw_0, stw_i, stw_l, stw_r, ofK0, ofK1, ofK2, lst1, lst2, lkill, kont_none, kont_some, Int.reduceToNat, List.length_cons, List.length_nil, Nat.reduceAdd, Nat.reduceLeDiff, Nat.zero_le, true_and, and_true, if_true, if_false, ne_eq, Int.reduceEq, Int.reduceNeg, not_false_eq_true, not_true_eq_false, ↓reduceIte, Int.reduceLT, Int.reduceLE, and_self, or_true, true_or, or_false, false_or, false_and, and_false, ah_t_w, ah_m_w, ah_n_w, lst1_0, List.tail_cons, w32_i, zbd, lst2_0, e2, t11]
    exact (c_176 hI).2 (by
      simp only [kont_some]
      rw [w_athrow]
      have t2 := r_12 hI
      have hO : Off W12 h (ah_w (ah_w h 12 6 1) 12 7 k) := Off_w (Off_w Off_rfl (by unfold W12; omega)) (by unfold W12; omega)
      refine ⟨⟨by rw [ah_t_w, ah_t_w, t2], by omega⟩, hQ0 _ e (RX_12 hR hO) hO ⟨?_, ?_⟩⟩
      · rw [ah_m_w, if_neg (by omega), ah_m_w, if_pos ⟨rfl, rfl⟩]
      · rw [ah_m_w, if_pos ⟨rfl, rfl⟩])
  rw [wpC_B]; refine ⟨⟨Nat.zero_lt_succ _, Nat.le_of_ble_eq_true rfl⟩, ?_⟩; simp only [lent]
  unfold zpd at hQ1 bad
  cases g : zL (zB t n (k - 1)) with
  | true =>
    have bad := bad (by rw [g]; rfl)
    simp (disch := omega) only [q_177_0, b_177_0, ↓w_iconst, ↓w_aload_n_0, ↓w_isub, ↓w_getfield, ↓w_nop, ↓w_ifCond_eq, ↓w_ifCond_ne, ↓w_invokestatic_1, ↓w_invokevirtual_1, stw_0, stw_i, stw_l, stw_r, ofK0, ofK1, ofK2, lst1, lst2, lkill, kont_none, kont_some, Int.reduceToNat, List.length_cons, List.length_nil, Nat.reduceAdd, Nat.reduceLeDiff, Nat.zero_le, true_and, and_true, if_true, if_false, ne_eq, Int.reduceEq, Int.reduceNeg, not_false_eq_true, not_true_eq_false, ↓reduceIte, Int.reduceLT, Int.reduceLE, and_self, or_true, true_or, or_false, false_or, false_and, and_false, ah_t_w, ah_m_w, ah_n_w, lst1_0, List.tail_cons, w32_i, zbd, lst2_0, c_175 hR, e2, t11, c_90, g, zb_t]
    exact bad
  | false =>
    cases g2 : zD (zB t n (k - 1)) with
    | true =>
      have bad := bad (by rw [g, g2]; rfl)
      simp (disch := omega) only [q_177_0, b_177_0, ↓w_iconst, ↓w_aload_n_0, ↓w_isub, ↓w_getfield, ↓w_nop, ↓w_ifCond_eq, ↓w_ifCond_ne, ↓w_invokestatic_1, ↓w_invokevirtual_1, stw_0, stw_i, stw_l, stw_r, ofK0, ofK1, ofK2, lst1, lst2, lkill, kont_none, kont_some, Int.reduceToNat, List.length_cons, List.length_nil, Nat.reduceAdd, Nat.reduceLeDiff, Nat.zero_le, true_and, and_true, if_true, if_false, ne_eq, Int.reduceEq, Int.reduceNeg, not_false_eq_true, not_true_eq_false, ↓reduceIte, Int.reduceLT, Int.reduceLE, and_self, or_true, true_or, or_false, false_or, false_and, and_false, ah_t_w, ah_m_w, ah_n_w, lst1_0, List.tail_cons, w32_i, zbd, lst2_0, c_175 hR, e2, t11, c_90, c_91, g, g2, zb_f, zb_t]
      exact bad
    | false =>
      simp (disch := omega) only [q_177_0, b_177_0, q_177_42, b_177_42, ↓w_iconst, ↓w_aload_n_0, ↓w_isub, ↓w_getfield, ↓w_nop, ↓w_ifCond_eq, ↓w_ifCond_ne, ↓w_return, ↓w_invokestatic_1, ↓w_invokevirtual_1, stw_0, stw_i, stw_l, stw_r, ofK0, ofK1, ofK2, lst1, lst2, lkill, kont_none, kont_some, Int.reduceToNat, List.length_cons, List.length_nil, Nat.reduceAdd, Nat.reduceLeDiff, Nat.zero_le, true_and, and_true, if_true, if_false, ne_eq, Int.reduceEq, Int.reduceNeg, not_false_eq_true, not_true_eq_false, ↓reduceIte, Int.reduceLT, Int.reduceLE, and_self, or_true, true_or, or_false, false_or, false_and, and_false, ah_t_w, ah_m_w, ah_n_w, lst1_0, List.tail_cons, w32_i, zbd, lst2_0, c_175 hR, e2, t11, c_90, c_91, g, g2, zb_f]
      exact hQ1 (by rw [g, g2]; rfl)
/-- a fault is told and thrown -/
theorem thrw (hR : RX t n k h) (hQ : ∀ h', RX t n k h' → Off W12 h h' → BXx a b h' → Q (.inr 12) h') {nn : Nat} {L : ALoc} : wpC (d + 1) 176 [.inr (.inr 11), .inl a, .inl b] h (kont (d + 1) nn [(.athrow, 0, 0, [(5, 0)])] 0 L [] Q) := by
  have hI := hR.1
  refine (c_176 hI).2 ?_
  simp only [kont_some]
  rw [w_athrow]
  have t2 := r_12 hI
  have hO : Off W12 h (ah_w (ah_w h 12 6 a) 12 7 b) := Off_w (Off_w Off_rfl (by unfold W12; omega)) (by unfold W12; omega)
  refine ⟨⟨by rw [ah_t_w, ah_t_w, t2], by omega⟩, hQ _ (RX_12 hR hO) hO ⟨?_, ?_⟩⟩
  · rw [ah_m_w, if_neg (by omega), ah_m_w, if_pos ⟨rfl, rfl⟩]
  · rw [ah_m_w, if_pos ⟨rfl, rfl⟩]
theorem c_180 (hR : RX t n k h) (hc : 0 ≤ c) (hQ0 : ∀ h' k', zsgn1 t n k c = .inl (1, k') → RX t n k' h' → Off Wrd h h' → BXx 1 k' h' → Q (.inr 12) h') (hQ1 : ∀ h' k', zsgn1 t n k c = .inr k' → RX t n k' h' → Off Wr2 h h' → Q (.inl none) h') : wpC (d + 3) 180 [.inr (.inr 11), .inl c] h Q := by
  have t11 := r_11 hR.1
  have hk := hR.2.2.2.2.2
  have hsk := zsk_le (t := t) hk.2
  have n16 := hR.2.2.2.2.1.1.2
  unfold zsgn1 at hQ0 hQ1
  rw [wpC_B]; refine ⟨⟨Nat.zero_lt_succ _, Nat.le_of_ble_eq_true rfl⟩, ?_⟩; simp only [lent]
  simp (disch := omega) only [q_180_0, b_180_0, ↓w_iconst, ↓w_aload_n_0, ↓w_iload_n_1, ↓w_getfield, ↓w_if_icmp_eq, ↓w_athrow, ↓w_invokevirtual_0, ↓w_invokevirtual_2, stw_0, stw_i, stw_l, stw_r, ofK0, ofK1, ofK2, lst1, lst2, lkill, kont_none, kont_some, Int.reduceToNat, List.length_cons, List.length_nil, Nat.reduceAdd, Nat.reduceLeDiff, Nat.zero_le, true_and, and_true, if_true, if_false, ne_eq, Int.reduceEq, Int.reduceNeg, not_false_eq_true, not_true_eq_false, ↓reduceIte, Int.reduceLT, Int.reduceLE, and_self, or_true, true_or, or_false, false_or, false_and, and_false, ah_t_w, ah_m_w, ah_n_w, lst1_0, List.tail_cons, w32_i, zbd, lst2_0, t11]
  refine c_174 (d := d) hR (fun h1 hR1 hO1 => ?_)
  have t11' := r_11 hR1.1
  have e2 := hR1.2.2.1
  by_cases g : zB t n (zsk t n k) = c
  · rw [if_pos g] at hQ1
    have hlt := zskn hk.2 (by rw [g]; omega)
    have h2 := RX_at hR1 (v := zsk t n k + 1) (by omega)
    simp (disch := omega) only [b_180_0, q_180_18, b_180_18, ↓w_iconst, ↓w_aload_n_0, ↓w_iload_n_1, ↓w_dup_i, ↓w_dup_a, ↓w_iadd, ↓w_getfield, ↓w_putfield_0, ↓w_if_icmp_eq, ↓w_return, ↓w_athrow, ↓w_invokevirtual_0, ↓w_invokevirtual_2, stw_0, stw_i, stw_l, stw_r, ofK0, ofK1, ofK2, lst1, lst2, lkill, kont_none, kont_some, Int.reduceToNat, List.length_cons, List.length_nil, Nat.reduceAdd, Nat.reduceLeDiff, Nat.zero_le, true_and, and_true, if_true, if_false, ne_eq, Int.reduceEq, Int.reduceNeg, not_false_eq_true, not_true_eq_false, ↓reduceIte, Int.reduceLT, Int.reduceLE, and_self, or_true, true_or, or_false, false_or, false_and, and_false, ah_t_w, ah_m_w, ah_n_w, lst1_0, List.tail_cons, w32_i, zbd, lst2_0, eq_true g, t11', e2]
    exact hQ1 _ _ rfl h2.1 (Off_tr hO1 h2.2)
  · rw [if_neg g] at hQ0
    simp (disch := omega) only [b_180_0, ↓w_iconst, ↓w_aload_n_0, ↓w_iload_n_1, ↓w_getfield, ↓w_if_icmp_eq, ↓w_athrow, ↓w_invokevirtual_0, ↓w_invokevirtual_2, stw_0, stw_i, stw_l, stw_r, ofK0, ofK1, ofK2, lst1, lst2, lkill, kont_none, kont_some, Int.reduceToNat, List.length_cons, List.length_nil, Nat.reduceAdd, Nat.reduceLeDiff, Nat.zero_le, true_and, and_true, if_true, if_false, ne_eq, Int.reduceEq, Int.reduceNeg, not_false_eq_true, not_true_eq_false, ↓reduceIte, Int.reduceLT, Int.reduceLE, and_self, or_true, true_or, or_false, false_or, false_and, and_false, ah_t_w, ah_m_w, ah_n_w, lst1_0, List.tail_cons, w32_i, zbd, lst2_0, g, t11', e2]
    exact thrw (d := d + 1) hR1 (fun h2 hR2 hO2 hb => hQ0 h2 _ rfl hR2 (Off_tr (Off_mono Wr2_d hO1) (Off_mono W12_d hO2)) hb)
theorem c_194 (hR : RX t n k h) (hc : 0 ≤ c) (hQ0 : ∀ h', zB t n (zsk t n k) ≠ c → RX t n (zsk t n k) h' → Off Wr2 h h' → Q (.inl (some (.inl 0))) h') (hQ1 : ∀ h', zB t n (zsk t n k) = c → RX t n (zsk t n k + 1) h' → Off Wr2 h h' → Q (.inl (some (.inl 1))) h') : wpC (d + 3) 194 [.inr (.inr 11), .inl c] h Q := by
  have t11 := r_11 hR.1
  have hk := hR.2.2.2.2.2
  have hsk := zsk_le (t := t) hk.2
  have n16 := hR.2.2.2.2.1.1.2
  rw [wpC_B]; refine ⟨⟨Nat.zero_lt_succ _, Nat.le_of_ble_eq_true rfl⟩, ?_⟩; simp only [lent]
  simp (disch := omega) only [q_194_0, b_194_0, ↓w_iconst, ↓w_aload_n_0, ↓w_iload_n_1, ↓w_goto, ↓w_if_icmp_ne, ↓w_invokevirtual_0, stw_0, stw_i, stw_l, stw_r, ofK0, ofK1, ofK2, lst1, lst2, lkill, kont_none, kont_some, Int.reduceToNat, List.length_cons, List.length_nil, Nat.reduceAdd, Nat.reduceLeDiff, Nat.zero_le, true_and, and_true, if_true, if_false, ne_eq, Int.reduceEq, Int.reduceNeg, not_false_eq_true, not_true_eq_false, ↓reduceIte, Int.reduceLT, Int.reduceLE, and_self, or_true, true_or, or_false, false_or, false_and, and_false, ah_t_w, ah_m_w, ah_n_w, lst1_0, List.tail_cons, w32_i, zbd, lst2_0, t11]
  refine c_174 (d := d) hR (fun h1 hR1 hO1 => ?_)
  have t11' := r_11 hR1.1
  have e2 := hR1.2.2.1
  by_cases g : zB t n (zsk t n k) = c
  · have hlt := zskn hk.2 (by rw [g]; omega)
    have h2 := RX_at hR1 (v := zsk t n k + 1) (by omega)
    simp (disch := omega) only [b_194_0, q_194_13, b_194_13, q_194_28, b_194_28, ↓w_iconst, ↓w_aload_n_0, ↓w_iload_n_1, ↓w_iload_n_2, ↓w_istore_n_2, ↓w_dup_i, ↓w_dup_a, ↓w_iadd, ↓w_getfield, ↓w_putfield_0, ↓w_goto, ↓w_ifCond_eq, ↓w_if_icmp_ne, ↓w_ireturn1, ↓w_invokevirtual_0, stw_0, stw_i, stw_l, stw_r, ofK0, ofK1, ofK2, lst1, lst2, lkill, kont_none, kont_some, Int.reduceToNat, List.length_cons, List.length_nil, Nat.reduceAdd, Nat.reduceLeDiff, Nat.zero_le, true_and, and_true, if_true, if_false, ne_eq, Int.reduceEq, Int.reduceNeg, not_false_eq_true, not_true_eq_false, ↓reduceIte, Int.reduceLT, Int.reduceLE, and_self, or_true, true_or, or_false, false_or, false_and, and_false, ah_t_w, ah_m_w, ah_n_w, lst1_0, List.tail_cons, w32_i, zbd, lst2_0, eq_true g, t11', e2]
    exact hQ1 _ g h2.1 (Off_tr hO1 h2.2)
  · have h2 := RX_at hR1 (v := zsk t n k) (by omega)
    simp (disch := omega) only [b_194_0, q_194_12, b_194_12, q_194_13, b_194_13, q_194_27, b_194_27, q_194_28, b_194_28, ↓w_iconst, ↓w_aload_n_0, ↓w_iload_n_1, ↓w_iload_n_2, ↓w_istore_n_2, ↓w_dup_i, ↓w_dup_a, ↓w_iadd, ↓w_getfield, ↓w_putfield_0, ↓w_nop, ↓w_goto, ↓w_ifCond_eq, ↓w_if_icmp_ne, ↓w_ireturn1, ↓w_invokevirtual_0, stw_0, stw_i, stw_l, stw_r, ofK0, ofK1, ofK2, lst1, lst2, lkill, kont_none, kont_some, Int.reduceToNat, List.length_cons, List.length_nil, Nat.reduceAdd, Nat.reduceLeDiff, Nat.zero_le, true_and, and_true, if_true, if_false, ne_eq, Int.reduceEq, Int.reduceNeg, not_false_eq_true, not_true_eq_false, ↓reduceIte, Int.reduceLT, Int.reduceLE, and_self, or_true, true_or, or_false, false_or, false_and, and_false, ah_t_w, ah_m_w, ah_n_w, lst1_0, List.tail_cons, w32_i, zbd, lst2_0, g, t11', e2, Int.add_zero]
    exact hQ0 _ g h2.1 (Off_tr hO1 h2.2)
theorem c_192 (hR : RX t n k h) (eo : ah_m h 11 4 = o) (ho : 0 ≤ o ∧ o ≤ 6) (hQ0 : ∀ h', o = 6 → RX t n k h' → Off W12 h h' → BXx 4 a h' → Q (.inr 12) h') (hQ1 : ∀ h', o ≠ 6 → RX t n k h' → Off (fun r i => r = 11 ∧ i = 4) h h' → ah_m h' 11 4 = o + 1 → Q (.inl none) h') : wpC (d + 2) 192 [.inr (.inr 11), .inl a] h Q := by
  have t11 := r_11 hR.1
  rw [wpC_B]; refine ⟨⟨Nat.zero_lt_succ _, Nat.le_of_ble_eq_true rfl⟩, ?_⟩; simp only [lent]
  by_cases g : o = 6
  · simp (disch := omega) only [q_192_0, b_192_0, ↓w_iconst, ↓w_bipush, ↓w_aload_n_0, ↓w_iload_n_1, ↓w_getfield, ↓w_if_icmp_ne, ↓w_athrow, ↓w_invokevirtual_2, stw_0, stw_i, stw_l, stw_r, ofK0, ofK1, ofK2, lst1, lst2, lkill, kont_none, kont_some, Int.reduceToNat, List.length_cons, List.length_nil, Nat.reduceAdd, Nat.reduceLeDiff, Nat.zero_le, true_and, and_true, if_true, if_false, ne_eq, Int.reduceEq, Int.reduceNeg, not_false_eq_true, not_true_eq_false, ↓reduceIte, Int.reduceLT, Int.reduceLE, and_self, or_true, true_or, or_false, false_or, false_and, and_false, ah_t_w, ah_m_w, ah_n_w, lst1_0, List.tail_cons, w32_i, zbd, lst2_0, t11, eo, g]
    exact thrw (d := d) hR (fun h2 hR2 hO2 hb => hQ0 h2 g hR2 hO2 hb)
  · have h2 := RX_fr hR (i := 4) (v := o + 1) (by omega)
    simp (disch := omega) only [q_192_0, b_192_0, q_192_16, b_192_16, ↓w_iconst, ↓w_bipush, ↓w_aload_n_0, ↓w_iload_n_1, ↓w_dup_i, ↓w_dup_a, ↓w_iadd, ↓w_getfield, ↓w_putfield_0, ↓w_if_icmp_ne, ↓w_return, ↓w_athrow, ↓w_invokevirtual_2, stw_0, stw_i, stw_l, stw_r, ofK0, ofK1, ofK2, lst1, lst2, lkill, kont_none, kont_some, Int.reduceToNat, List.length_cons, List.length_nil, Nat.reduceAdd, Nat.reduceLeDiff, Nat.zero_le, true_and, and_true, if_true, if_false, ne_eq, Int.reduceEq, Int.reduceNeg, not_false_eq_true, not_true_eq_false, ↓reduceIte, Int.reduceLT, Int.reduceLE, and_self, or_true, true_or, or_false, false_or, false_and, and_false, ah_t_w, ah_m_w, ah_n_w, lst1_0, List.tail_cons, w32_i, zbd, lst2_0, t11, eo, g]
    exact hQ1 _ g h2.1 h2.2 (by rw [ah_m_w, if_pos ⟨rfl, rfl⟩])
theorem c_181 (hR : RX t n k h) (hQ0 : ∀ h', x ≠ 0 → RX t n k h' → Off W12 h h' → BXx 5 a h' → Q (.inr 12) h') (hQ1 : x = 0 → Q (.inl none) h) : wpC (d + 2) 181 [.inr (.inr 11), .inl x, .inl a] h Q := by
  have t11 := r_11 hR.1
  rw [wpC_B]; refine ⟨⟨Nat.zero_lt_succ _, Nat.le_of_ble_eq_true rfl⟩, ?_⟩; simp only [lent]
  by_cases g : x = 0
  · simp (disch := omega) only [q_181_0, b_181_0, q_181_11, b_181_11, ↓w_iconst, ↓w_aload_n_0, ↓w_iload_n_1, ↓w_iload_n_2, ↓w_ifCond_eq, ↓w_return, ↓w_athrow, ↓w_invokevirtual_2, stw_0, stw_i, stw_l, stw_r, ofK0, ofK1, ofK2, lst1, lst2, lkill, kont_none, kont_some, Int.reduceToNat, List.length_cons, List.length_nil, Nat.reduceAdd, Nat.reduceLeDiff, Nat.zero_le, true_and, and_true, if_true, if_false, ne_eq, Int.reduceEq, Int.reduceNeg, not_false_eq_true, not_true_eq_false, ↓reduceIte, Int.reduceLT, Int.reduceLE, and_self, or_true, true_or, or_false, false_or, false_and, and_false, ah_t_w, ah_m_w, ah_n_w, lst1_0, List.tail_cons, w32_i, zbd, lst2_0, g]
    exact hQ1 g
  · simp (disch := omega) only [q_181_0, b_181_0, ↓w_iconst, ↓w_aload_n_0, ↓w_iload_n_1, ↓w_iload_n_2, ↓w_ifCond_eq, ↓w_athrow, ↓w_invokevirtual_2, stw_0, stw_i, stw_l, stw_r, ofK0, ofK1, ofK2, lst1, lst2, lkill, kont_none, kont_some, Int.reduceToNat, List.length_cons, List.length_nil, Nat.reduceAdd, Nat.reduceLeDiff, Nat.zero_le, true_and, and_true, if_true, if_false, ne_eq, Int.reduceEq, Int.reduceNeg, not_false_eq_true, not_true_eq_false, ↓reduceIte, Int.reduceLT, Int.reduceLE, and_self, or_true, true_or, or_false, false_or, false_and, and_false, ah_t_w, ah_m_w, ah_n_w, lst1_0, List.tail_cons, w32_i, zbd, lst2_0, g, t11]
    exact thrw (d := d) hR (fun h2 hR2 hO2 hb => hQ0 h2 g hR2 hO2 hb)
def Wnm (r i : Int) : Prop := (r = 11 ∧ (i = 2 ∨ i = 3)) ∨ W12 r i
theorem Wnm_d : ∀ r i, Wnm r i → Wrd r i := fun r i w => by unfold Wnm W12 at w; unfold Wrd; omega
theorem l_178 {p0 : Int} (hb0 : 0 ≤ p0) (hQ0 : ∀ h' q, znf t n 4 p0 0 = none → RX t n q h' → Off Wnm h h' → ah_m h' 11 3 = p0 → BXx 1 (p0 + 4) h' → Q (.inr 12) h') (hQ1 : ∀ h' q v, znf t n 4 p0 0 = some (q, v) → RX t n q h' → Off Wnm h h' → ah_m h' 11 3 = p0 → (0 ≤ v ∧ v ≤ 9999) → wpB (d + 2) 178 101 [some (.inr (.inr 11)), some (.inl lo), some (.inl hi), some (.inl v)] [] h' Q) :
    ∀ (j : Nat) (x v : Int) (B : Int) h', x = p0 + (4 - j) → j ≤ 4 → (0 ≤ v ∧ v < B) → (B = 1 ∧ j = 4 ∨ B = 10 ∧ j = 3 ∨ B = 100 ∧ j = 2 ∨ B = 1000 ∧ j = 1 ∨ B = 10000 ∧ j = 0) → RX t n x h' → Off Wnm h h' → ah_m h' 11 3 = p0 → znf t n j x v = znf t n 4 p0 0 → wpB (d + 2) 178 34 [some (.inr (.inr 11)), some (.inl lo), some (.inl hi), some (.inl v)] [] h' Q := by
  intro j
  induction j with
  | zero =>
    intro x v B h' ex hj hv hB hR hO e3 e
    have t11 := r_11 hR.1
    have e2 := hR.2.2.1
    have n16 := hR.2.2.2.2.1.1.2
    have hk := hR.2.2.2.2.2
    simp only [znf] at e
    rw [q_178_34]
    cases g : zD (zB t n x) with
    | true =>
      rw [g, if_pos rfl] at e
      have e4 : x - p0 = 4 := by omega
      simp (disch := omega) only [b_178_34, ↓w_iconst, ↓w_aload_n_0, ↓w_isub, ↓w_getfield, ↓w_ifCond_eq, ↓w_if_icmp_ne, ↓w_athrow, ↓w_invokestatic_1, ↓w_invokevirtual_1, ↓w_invokevirtual_2, stw_0, stw_i, stw_l, stw_r, ofK0, ofK1, ofK2, lst1, lst2, lkill, kont_none, kont_some, Int.reduceToNat, List.length_cons, List.length_nil, Nat.reduceAdd, Nat.reduceLeDiff, Nat.zero_le, true_and, and_true, if_true, if_false, ne_eq, Int.reduceEq, Int.reduceNeg, not_false_eq_true, not_true_eq_false, ↓reduceIte, Int.reduceLT, Int.reduceLE, and_self, or_true, true_or, or_false, false_or, false_and, and_false, ah_t_w, ah_m_w, ah_n_w, lst1_0, List.tail_cons, w32_i, zbd, lst2_0, c_175 hR, c_91, t11, e2, e3, g, zb_t, e4]
      exact thrw (d := d + 1) hR (fun h2 hR2 hO2 hb => hQ0 h2 x e.symm hR2 (Off_tr hO (Off_mono (fun r i w => Or.inr w) hO2)) (by rw [hO2.2 _ _ (by unfold W12; omega)]; exact e3) (by rw [show p0 + 4 = x by omega]; exact hb))
    | false =>
      rw [g, if_neg (by decide)] at e
      simp (disch := omega) only [b_178_34, ↓w_iconst, ↓w_aload_n_0, ↓w_isub, ↓w_getfield, ↓w_ifCond_eq, ↓w_if_icmp_ne, ↓w_athrow, ↓w_invokestatic_1, ↓w_invokevirtual_1, ↓w_invokevirtual_2, stw_0, stw_i, stw_l, stw_r, ofK0, ofK1, ofK2, lst1, lst2, lkill, kont_none, kont_some, Int.reduceToNat, List.length_cons, List.length_nil, Nat.reduceAdd, Nat.reduceLeDiff, Nat.zero_le, true_and, and_true, if_true, if_false, ne_eq, Int.reduceEq, Int.reduceNeg, not_false_eq_true, not_true_eq_false, ↓reduceIte, Int.reduceLT, Int.reduceLE, and_self, or_true, true_or, or_false, false_or, false_and, and_false, ah_t_w, ah_m_w, ah_n_w, lst1_0, List.tail_cons, w32_i, zbd, lst2_0, c_175 hR, c_91, t11, e2, e3, g, zb_f]
      exact hQ1 h' x v e.symm hR hO e3 (by omega)
  | succ j ih =>
    intro x v B h' ex hj hv hB hR hO e3 e
    have t11 := r_11 hR.1
    have e2 := hR.2.2.1
    have n16 := hR.2.2.2.2.1.1.2
    have hk := hR.2.2.2.2.2
    simp only [znf] at e
    rw [q_178_34]
    cases g : zD (zB t n x) with
    | true =>
      rw [g, if_pos rfl] at e
      have gd := of_decide_eq_true g
      have hx : x < n := by
        by_cases q : x < n
        · exact q
        · rw [zB_o (by omega)] at gd; omega
      have e4 : ¬ x - p0 = 4 := by omega
      have h2 := RX_at hR (v := x + 1) (by omega)
      simp (disch := omega) only [b_178_34, q_178_71, b_178_71, ↓w_iconst, ↓w_bipush, ↓w_aload_n_0, ↓w_iload_n_3, ↓w_istore_n_3, ↓w_dup_i, ↓w_dup_a, ↓w_iadd, ↓w_isub, ↓w_imul, ↓w_getfield, ↓w_putfield_0, ↓w_goto, ↓w_ifCond_eq, ↓w_if_icmp_ne, ↓w_athrow, ↓w_invokestatic_1, ↓w_invokevirtual_1, ↓w_invokevirtual_2, stw_0, stw_i, stw_l, stw_r, ofK0, ofK1, ofK2, lst1, lst2, lkill, kont_none, kont_some, Int.reduceToNat, List.length_cons, List.length_nil, Nat.reduceAdd, Nat.reduceLeDiff, Nat.zero_le, true_and, and_true, if_true, if_false, ne_eq, Int.reduceEq, Int.reduceNeg, not_false_eq_true, not_true_eq_false, ↓reduceIte, Int.reduceLT, Int.reduceLE, and_self, or_true, true_or, or_false, false_or, false_and, and_false, ah_t_w, ah_m_w, ah_n_w, lst1_0, List.tail_cons, w32_i, zbd, lst2_0, c_175 hR, c_91, t11, e2, e3, g, zb_t, e4]
      refine ih (x + 1) _ (10 * B) _ (by omega) (by omega) (by omega) (by omega) h2.1 (Off_tr hO (Off_mono (fun r i w => Or.inl ⟨w.1, Or.inl w.2⟩) h2.2)) (by rw [ah_m_w, if_neg (by omega)]; exact e3) e
    | false =>
      rw [g, if_neg (by decide)] at e
      simp (disch := omega) only [b_178_34, ↓w_iconst, ↓w_aload_n_0, ↓w_isub, ↓w_getfield, ↓w_ifCond_eq, ↓w_if_icmp_ne, ↓w_athrow, ↓w_invokestatic_1, ↓w_invokevirtual_1, ↓w_invokevirtual_2, stw_0, stw_i, stw_l, stw_r, ofK0, ofK1, ofK2, lst1, lst2, lkill, kont_none, kont_some, Int.reduceToNat, List.length_cons, List.length_nil, Nat.reduceAdd, Nat.reduceLeDiff, Nat.zero_le, true_and, and_true, if_true, if_false, ne_eq, Int.reduceEq, Int.reduceNeg, not_false_eq_true, not_true_eq_false, ↓reduceIte, Int.reduceLT, Int.reduceLE, and_self, or_true, true_or, or_false, false_or, false_and, and_false, ah_t_w, ah_m_w, ah_n_w, lst1_0, List.tail_cons, w32_i, zbd, lst2_0, c_175 hR, c_91, t11, e2, e3, g, zb_f]
      exact hQ1 h' x v e.symm hR hO e3 (by omega)
theorem c_178 (hR : RX t n k h) (hQ0 : ∀ h' q a b, znum t n k lo hi = .inl (a, b) → RX t n q h' → Off Wnm h h' → BXx a b h' → Q (.inr 12) h') (hQ1 : ∀ h' q v, znum t n k lo hi = .inr (q, v) → RX t n q h' → Off Wnm h h' → ah_m h' 11 3 = zsk t n k → Q (.inl (some (.inl v))) h') : wpC (d + 3) 178 [.inr (.inr 11), .inl lo, .inl hi] h Q := by
  have t11 := r_11 hR.1
  have hk := hR.2.2.2.2.2
  have hsk := zsk_le (t := t) hk.2
  have n16 := hR.2.2.2.2.1.1.2
  have W1 : ∀ r i, Wr2 r i → Wnm r i := fun r i w => Or.inl ⟨w.1, Or.inl w.2⟩
  have W2 : ∀ r i, W12 r i → Wnm r i := fun r i w => Or.inr w
  unfold znum at hQ0 hQ1
  rw [wpC_B]; refine ⟨⟨Nat.zero_lt_succ _, Nat.le_of_ble_eq_true rfl⟩, ?_⟩; simp only [lent]
  simp (disch := omega) only [q_178_0, b_178_0, ↓w_iconst, ↓w_aload_n_0, ↓w_getfield, ↓w_ifCond_ne, ↓w_athrow, ↓w_invokevirtual_0, ↓w_invokestatic_1, ↓w_invokevirtual_2, stw_0, stw_i, stw_l, stw_r, ofK0, ofK1, ofK2, lst1, lst2, lkill, kont_none, kont_some, Int.reduceToNat, List.length_cons, List.length_nil, Nat.reduceAdd, Nat.reduceLeDiff, Nat.zero_le, true_and, and_true, if_true, if_false, ne_eq, Int.reduceEq, Int.reduceNeg, not_false_eq_true, not_true_eq_false, ↓reduceIte, Int.reduceLT, Int.reduceLE, and_self, or_true, true_or, or_false, false_or, false_and, and_false, ah_t_w, ah_m_w, ah_n_w, lst1_0, List.tail_cons, w32_i, zbd, lst2_0, t11]
  refine c_174 (d := d) hR (fun h1 hR1 hO1 => ?_)
  have t11' := r_11 hR1.1
  have e2 := hR1.2.2.1
  cases g : zD (zB t n (zsk t n k)) with
  | false =>
    rw [if_neg (by rw [g]; simp)] at hQ0
    simp (disch := omega) only [b_178_0, ↓w_iconst, ↓w_aload_n_0, ↓w_getfield, ↓w_ifCond_ne, ↓w_athrow, ↓w_invokevirtual_0, ↓w_invokestatic_1, ↓w_invokevirtual_2, stw_0, stw_i, stw_l, stw_r, ofK0, ofK1, ofK2, lst1, lst2, lkill, kont_none, kont_some, Int.reduceToNat, List.length_cons, List.length_nil, Nat.reduceAdd, Nat.reduceLeDiff, Nat.zero_le, true_and, and_true, if_true, if_false, ne_eq, Int.reduceEq, Int.reduceNeg, not_false_eq_true, not_true_eq_false, ↓reduceIte, Int.reduceLT, Int.reduceLE, and_self, or_true, true_or, or_false, false_or, false_and, and_false, ah_t_w, ah_m_w, ah_n_w, lst1_0, List.tail_cons, w32_i, zbd, lst2_0, c_91, g, zb_f, t11', e2]
    exact thrw (d := d + 1) hR1 (fun h2 hR2 hO2 hb => hQ0 h2 _ _ _ rfl hR2 (Off_tr (Off_mono W1 hO1) (Off_mono W2 hO2)) hb)
  | true =>
    simp (disch := omega) only [b_178_0, q_178_20, b_178_20, ↓w_iconst, ↓w_aload_n_0, ↓w_istore_n_3, ↓w_getfield, ↓w_putfield_0, ↓w_nop, ↓w_ifCond_ne, ↓w_athrow, ↓w_invokevirtual_0, ↓w_invokestatic_1, ↓w_invokevirtual_2, stw_0, stw_i, stw_l, stw_r, ofK0, ofK1, ofK2, lst1, lst2, lkill, kont_none, kont_some, Int.reduceToNat, List.length_cons, List.length_nil, Nat.reduceAdd, Nat.reduceLeDiff, Nat.zero_le, true_and, and_true, if_true, if_false, ne_eq, Int.reduceEq, Int.reduceNeg, not_false_eq_true, not_true_eq_false, ↓reduceIte, Int.reduceLT, Int.reduceLE, and_self, or_true, true_or, or_false, false_or, false_and, and_false, ah_t_w, ah_m_w, ah_n_w, lst1_0, List.tail_cons, w32_i, zbd, lst2_0, c_91, g, zb_t, t11', e2]
    refine c_177 (d := d) hR1 (fun h2 e hR2 hO2 hb => ?_) (fun e => ?_)
    · rw [kont_0]
      rw [if_neg (by rw [e]; simp)] at hQ0
      exact hQ0 h2 _ _ _ rfl hR2 (Off_tr (Off_mono W1 hO1) (Off_mono W2 hO2)) hb
    · rw [if_pos ⟨g, e⟩] at hQ0 hQ1
      have h2 := RX_fr hR1 (i := 3) (v := zsk t n k) (by omega)
      have hO2 : Off Wnm h (ah_w h1 11 3 (zsk t n k)) := Off_tr (Off_mono W1 hO1) (Off_mono (fun r i w => Or.inl ⟨w.1, Or.inr w.2⟩) h2.2)
      simp (disch := omega) only [b_178_20, ↓w_iconst, ↓w_aload_n_0, ↓w_istore_n_3, ↓w_getfield, ↓w_putfield_0, ↓w_nop, ↓w_invokevirtual_0, stw_0, stw_i, stw_l, stw_r, ofK0, ofK1, ofK2, lst1, lst2, lkill, kont_none, kont_some, Int.reduceToNat, List.length_cons, List.length_nil, Nat.reduceAdd, Nat.reduceLeDiff, Nat.zero_le, true_and, and_true, if_true, if_false, ne_eq, Int.reduceEq, Int.reduceNeg, not_false_eq_true, not_true_eq_false, ↓reduceIte, Int.reduceLT, Int.reduceLE, and_self, or_true, true_or, or_false, false_or, false_and, and_false, ah_t_w, ah_m_w, ah_n_w, lst1_0, List.tail_cons, w32_i, zbd, lst2_0, t11', e2]
      refine l_178 (p0 := zsk t n k) (h := h) (by omega) (fun h3 q e4 hR3 hO3 e3 hb => ?_) (fun h3 q v e4 hR3 hO3 e3 hv => ?_) 4 (zsk t n k) 0 1 _ (by omega) (by omega) (by omega) (by omega) h2.1 hO2 (by rw [ah_m_w, if_pos ⟨rfl, rfl⟩]) rfl
      · rw [e4] at hQ0
        exact hQ0 h3 _ _ _ rfl hR3 hO3 hb
      · rw [e4] at hQ0 hQ1
        simp only [] at hQ0 hQ1
        have t3 := r_11 hR3.1
        by_cases gr : lo ≤ v ∧ v ≤ hi
        · rw [if_pos gr] at hQ1
          simp (disch := omega) only [q_178_101, b_178_101, q_178_120, b_178_120, ↓w_iconst, ↓w_aload_n_0, ↓w_iload_n_1, ↓w_iload_n_2, ↓w_iload_n_3, ↓w_getfield, ↓w_ifCond_ne, ↓w_ireturn0, ↓w_athrow, ↓w_invokevirtual_2, ↓w_invokestatic_3, stw_0, stw_i, stw_l, stw_r, ofK0, ofK1, ofK2, lst1, lst2, lkill, kont_none, kont_some, Int.reduceToNat, List.length_cons, List.length_nil, Nat.reduceAdd, Nat.reduceLeDiff, Nat.zero_le, true_and, and_true, if_true, if_false, ne_eq, Int.reduceEq, Int.reduceNeg, not_false_eq_true, not_true_eq_false, ↓reduceIte, Int.reduceLT, Int.reduceLE, and_self, or_true, true_or, or_false, false_or, false_and, and_false, ah_t_w, ah_m_w, ah_n_w, lst1_0, List.tail_cons, w32_i, zbd, lst2_0, is_1 gr]
          exact hQ1 h3 _ _ rfl hR3 hO3 e3
        · rw [if_neg gr] at hQ0
          simp (disch := omega) only [q_178_101, b_178_101, ↓w_iconst, ↓w_aload_n_0, ↓w_iload_n_1, ↓w_iload_n_2, ↓w_iload_n_3, ↓w_getfield, ↓w_ifCond_ne, ↓w_athrow, ↓w_invokevirtual_2, ↓w_invokestatic_3, stw_0, stw_i, stw_l, stw_r, ofK0, ofK1, ofK2, lst1, lst2, lkill, kont_none, kont_some, Int.reduceToNat, List.length_cons, List.length_nil, Nat.reduceAdd, Nat.reduceLeDiff, Nat.zero_le, true_and, and_true, if_true, if_false, ne_eq, Int.reduceEq, Int.reduceNeg, not_false_eq_true, not_true_eq_false, ↓reduceIte, Int.reduceLT, Int.reduceLE, and_self, or_true, true_or, or_false, false_or, false_and, and_false, ah_t_w, ah_m_w, ah_n_w, lst1_0, List.tail_cons, w32_i, zbd, lst2_0, is_0 gr, t3, e3]
          exact thrw (d := d + 1) hR3 (fun h4 hR4 hO4 hb => hQ0 h4 _ _ _ rfl hR4 (Off_tr hO3 (Off_mono W2 hO4)) hb)
end B2
