/-! ===== X: images ===== -/
def XOp (l : List Int) (h : AH) : Prop := ah_m h 1 24 = l.length ∧ ∀ i : Int, 0 ≤ i → i < l.length → (-128 ≤ ah_m h 1035 i ∧ ah_m h 1035 i < 128) ∧ ah_m h 1035 i % 256 = zlf l i
def Wim (r i : Int) : Prop := r = 1035 ∨ (r = 1 ∧ i = 24)
section A5
variable {W : Int → Int → Prop} {d : Nat} {h h' h1 h0 : AH} {Q : QQ} {x y z m k s w a b v n p r o i f D0 D1 rm fr R : Int} {S T T' : Int → Int → Int} {t nw nw' pt of tp sr hm g : Int → Int} {tl : ALoc} {c : Int × Int × Int} {ul : List (Int → Int)} {l : List Int}
set_option maxHeartbeats 4000000
theorem Wim_ok : ∀ r i, Wim r i → (¬ fix r i ∧ ¬ BRr r ∧ ¬ (r = 1 ∧ i = 0)) ∧ r < 1121 ∧ (r < 25 ∨ (115 ≤ r ∧ r ≤ 119) ∨ 1020 ≤ r) := fun r i w => by
  unfold Wim at w; unfold fix BRr isS isV; omega
theorem c_143 (hK : XG T h) (hl : XOp l h) (h32 : l.length < 32) (ev : z % 256 = v) (hQ : ∀ h', XOp (l ++ [v]) h' → Off Wim h h' → Q (.inl none) h') : wpC (d + 1) 143 [.inr (.inr 1), .inl z] h Q := by
  have e := hl.1
  have b0 : 0 ≤ (l.length : Int) := by omega
  have b1 : (l.length : Int) < 32 := by omega
  rw [wpC_B]; refine ⟨⟨Nat.zero_lt_succ _, Nat.le_of_ble_eq_true rfl⟩, ?_⟩; simp only [lent]
  simp (disch := omega) only [q_143_0, b_143_0, ↓w_iconst, ↓w_aload_n_0, ↓w_iload_n_1, ↓w_dup_i, ↓w_dup_a, ↓w_dup_x1, ↓w_dup_x1a, ↓w_iadd, ↓w_i2b, ↓w_getfield, ↓w_putfield_0, ↓w_bastore, ↓w_return, stw_0, stw_i, stw_l, stw_r, ofK0, ofK1, ofK2, lst1, lst2, lkill, kont_none, kont_some, Int.reduceToNat, List.length_cons, List.length_nil, Nat.reduceAdd, Nat.reduceLeDiff, Nat.zero_le, true_and, and_true, if_true, if_false, ne_eq, Int.reduceEq, Int.reduceNeg, not_false_eq_true, not_true_eq_false, ↓reduceIte, Int.reduceLT, Int.reduceLE, and_self, or_true, true_or, or_false, false_or, false_and, and_false, ah_t_w, ah_m_w, ah_n_w, lst1_0, List.tail_cons, w32_i, zbd, lst2_0, xt_1a hK, xf_1_23 hK, xt_1035a hK, xt_1035b hK, e, b0, b1]
  have w2 : w8 (w8 z) = w8 z := by unfold w8; omega
  have wb := w8_b z
  rw [w2]
  refine hQ _ ⟨?_, fun i i0 i1 => ?_⟩ (Off_w (Off_w Off_rfl (by unfold Wim; omega)) (by unfold Wim; omega))
  · rw [ah_m_w, if_neg (by omega), ah_m_w, if_pos ⟨rfl, rfl⟩]; simp
  · simp only [List.length_append, List.length_cons, List.length_nil] at i1
    rw [ah_m_w]
    by_cases q : i = l.length
    · rw [if_pos ⟨rfl, q⟩, zlf_end q, wb.2, ev]; exact ⟨wb.1, rfl⟩
    · rw [if_neg (fun u => q u.2), ah_m_w, if_neg (by omega), zlf_app i0 (by omega)]
      exact hl.2 i i0 (by omega)
theorem l_144 (ht : (ah_t h r).1 = -2) (hn : n ≤ (ah_t h r).2) (h16 : n ≤ 1600) : ∀ (j : Nat) (k c : Int), 0 ≤ k → k + j = n → 0 ≤ c → c ≤ 250 → wpB d 144 5 [some (.inr (.inr r)), some (.inl n), some (.inl c), some (.inl k)] [] h (fun o h1 => o = .inl (some (.inl (zck2 (fun i => ah_m h r i % 256) j k c))) ∧ h1 = h) := by
  intro j
  induction j with
  | zero =>
    intro k c k0 k1 c0 c1
    have hlt : ¬ k < n := by omega
    simp (disch := omega) only [q_144_5, b_144_5, q_144_32, b_144_32, ↓w_iconst, ↓w_sipush, ↓w_aload_n_0, ↓w_iload_n_1, ↓w_iload_n_2, ↓w_iload_n_3, ↓w_iinc_3, ↓w_istore_n_2, ↓w_iadd, ↓w_imul, ↓w_iand, ↓w_irem, ↓w_baload, ↓w_goto, ↓w_if_icmp_ge, ↓w_ireturn0, stw_0, stw_i, stw_l, stw_r, ofK0, ofK1, ofK2, lst1, lst2, lkill, kont_none, kont_some, Int.reduceToNat, List.length_cons, List.length_nil, Nat.reduceAdd, Nat.reduceLeDiff, Nat.zero_le, true_and, and_true, if_true, if_false, ne_eq, Int.reduceEq, Int.reduceNeg, not_false_eq_true, not_true_eq_false, ↓reduceIte, Int.reduceLT, Int.reduceLE, and_self, or_true, true_or, or_false, false_or, false_and, and_false, ah_t_w, ah_m_w, ah_n_w, lst1_0, List.tail_cons, w32_i, zbd, lst2_0, hlt, zck2]
  | succ j ih =>
    intro k c k0 k1 c0 c1
    have hlt : k < n := by omega
    have hb : 0 ≤ ah_m h r k % 256 ∧ ah_m h r k % 256 < 256 := by omega
    have k2 : k < (ah_t h r).2 := by omega
    have e1 : (3 * c + ah_m h r k % 256).tmod 251 = (3 * c + ah_m h r k % 256) % 251 := Int.tmod_eq_emod_of_nonneg (by omega)
    have ih := ih (k + 1) ((3 * c + ah_m h r k % 256) % 251) (by omega) (by omega) (by omega) (by omega)
    rw [q_144_5]
    simp only [zck2]
    simp (disch := omega) only [b_144_5, ↓w_iconst, ↓w_sipush, ↓w_aload_n_0, ↓w_iload_n_1, ↓w_iload_n_2, ↓w_iload_n_3, ↓w_iinc_3, ↓w_istore_n_2, ↓w_iadd, ↓w_imul, ↓w_iand, ↓w_irem, ↓w_baload, ↓w_goto, ↓w_if_icmp_ge, stw_0, stw_i, stw_l, stw_r, ofK0, ofK1, ofK2, lst1, lst2, lkill, kont_none, kont_some, Int.reduceToNat, List.length_cons, List.length_nil, Nat.reduceAdd, Nat.reduceLeDiff, Nat.zero_le, true_and, and_true, if_true, if_false, ne_eq, Int.reduceEq, Int.reduceNeg, not_false_eq_true, not_true_eq_false, ↓reduceIte, Int.reduceLT, Int.reduceLE, and_self, or_true, true_or, or_false, false_or, false_and, and_false, ah_t_w, ah_m_w, ah_n_w, lst1_0, List.tail_cons, w32_i, zbd, lst2_0, hlt, ht, k0, k2, iand_255, e1]
    exact ih
theorem c_144 (ht : (ah_t h r).1 = -2) (n0 : 0 ≤ n) (hn : n ≤ (ah_t h r).2) (h16 : n ≤ 1600) : wpC (d + 1) 144 [.inr (.inr r), .inl n] h Q ↔ Q (.inl (some (.inl (zck2 (fun i => ah_m h r i % 256) n.toNat 0 59)))) h := by
  apply CT_iff; apply CT_of; rw [wpC_B]; refine ⟨⟨Nat.zero_lt_succ _, Nat.le_of_ble_eq_true rfl⟩, ?_⟩; simp only [lent]
  simp (disch := omega) only [q_144_0, b_144_0, ↓w_iconst, ↓w_bipush, ↓w_istore_n_2, ↓w_istore_n_3, ↓w_nop, stw_0, stw_i, stw_l, stw_r, ofK0, ofK1, ofK2, lst1, lst2, lkill, kont_none, kont_some, Int.reduceToNat, List.length_cons, List.length_nil, Nat.reduceAdd, Nat.reduceLeDiff, Nat.zero_le, true_and, and_true, if_true, if_false, ne_eq, Int.reduceEq, Int.reduceNeg, not_false_eq_true, not_true_eq_false, ↓reduceIte, Int.reduceLT, Int.reduceLE, and_self, or_true, true_or, or_false, false_or, false_and, and_false, ah_t_w, ah_m_w, ah_n_w, lst1_0, List.tail_cons, w32_i, zbd, lst2_0]
  exact l_144 ht hn h16 n.toNat 0 59 (by omega) (by omega) (by omega) (by omega)
theorem l_142_43 {pre : List Int} (hA : XA T nw h) (hX : NX T nw) (hF : FV nw) (hp : pre.length = 3) (hQ : ∀ h' m, XA T nw h' → XOp (pre ++ zml nw (2 * T 1072 4).toNat) h' → Off Wim h h' → wpB (d + 2) 142 125 [some (.inr (.inr 1)), some (.inl m)] [] h' Q) :
    ∀ (j : Nat) (k : Nat) h', (k : Int) + j = T 1072 4 → XA T nw h' → XOp (pre ++ zml nw (2 * k)) h' → Off Wim h h' → wpB (d + 2) 142 43 [some (.inr (.inr 1)), some (.inl k)] [] h' Q := by
  have hN := NX_N hX
  have h40 := hF.2.2.2
  have n8 := hA.1.2.2.2.1
  have hC := hA.1.2.2.2.2.2.1; have hR := hA.1.2.2.2.2.2.2.1
  intro j
  induction j with
  | zero =>
    intro k h' k1 hA' hl hO
    have hK := hA'.1
    have hlt : ¬ (k : Int) < T 1072 4 := by omega
    simp (disch := omega) only [q_142_43, b_142_43, ↓w_iconst, ↓w_sipush, ↓w_aload_n_0, ↓w_iload_n_1, ↓w_getfield, ↓w_iaload, ↓w_goto, ↓w_if_icmp_ne, ↓w_if_icmp_ge, ↓w_invokevirtual_0, stw_0, stw_i, stw_l, stw_r, ofK0, ofK1, ofK2, lst1, lst2, lkill, kont_none, kont_some, Int.reduceToNat, List.length_cons, List.length_nil, Nat.reduceAdd, Nat.reduceLeDiff, Nat.zero_le, true_and, and_true, if_true, if_false, ne_eq, Int.reduceEq, Int.reduceNeg, not_false_eq_true, not_true_eq_false, ↓reduceIte, Int.reduceLT, Int.reduceLE, and_self, or_true, true_or, or_false, false_or, false_and, and_false, ah_t_w, ah_m_w, ah_n_w, lst1_0, List.tail_cons, w32_i, zbd, lst2_0, xt_1a hK, xf_1_12 hK, c_81 hK, hlt]
    refine hQ h' k hA' ?_ hO
    rw [show (2 * T 1072 4).toNat = 2 * k by omega]; exact hl
  | succ j ih =>
    intro k h' k1 hA' hl hO
    have hK := hA'.1
    have hS := hA'.2.1
    have hlt : (k : Int) < T 1072 4 := by omega
    have m8 : (k : Int) < 8 := by omega
    have m0 : 0 ≤ (k : Int) := by omega
    have ep := sp hS m0 hlt
    have hb := zpl5_b hN hC.2 hR.2 m0 hlt
    have hv := hN.2.1 k m0 hlt
    have ln : (pre ++ zml nw (2 * k)).length = 3 + 2 * k := by rw [List.length_append, hp, zml_len]
    have ezm : pre ++ zml nw (2 * (k + 1)) = (pre ++ zml nw (2 * k)) ++ [zgi nw ((2 * k : Nat) : Int)] ++ [zgi nw ((2 * k + 1 : Nat) : Int)] := by
      rw [show 2 * (k + 1) = (2 * k + 1) + 1 by omega]; simp only [zml, List.append_assoc]
    have e1 : zgi nw ((2 * k : Nat) : Int) = (if nw (2 + 2 * k) = -1 then 255 else nw (2 + 2 * k)) := by unfold zgi; rw [show (2 : Int) + ((2 * k : Nat) : Int) = 2 + 2 * k by omega]
    have e2 : zgi nw ((2 * k + 1 : Nat) : Int) = (if nw (3 + 2 * k) = -1 then 255 else nw (3 + 2 * k)) := by unfold zgi; rw [show (2 : Int) + ((2 * k + 1 : Nat) : Int) = 3 + 2 * k by omega]
    -- the second
    have sec : ∀ h2, XA T nw h2 → XOp ((pre ++ zml nw (2 * k)) ++ [zgi nw ((2 * k : Nat) : Int)]) h2 → Off Wim h h2 → ∀ z, z % 256 = zgi nw ((2 * k + 1 : Nat) : Int) → wpB (d + 2) 142 116 [some (.inr (.inr 1)), some (.inl k)] [.inl z, .inr (.inr 1)] h2 Q := by
      intro h2 hA2 hl2 hO2 z ez
      have hK2 := hA2.1
      simp (disch := omega) only [q_142_116, b_142_116, ↓w_iinc_1, ↓w_goto, ↓w_invokevirtual_1, stw_0, stw_i, stw_l, stw_r, ofK0, ofK1, ofK2, lst1, lst2, lkill, kont_none, kont_some, Int.reduceToNat, List.length_cons, List.length_nil, Nat.reduceAdd, Nat.reduceLeDiff, Nat.zero_le, true_and, and_true, if_true, if_false, ne_eq, Int.reduceEq, Int.reduceNeg, not_false_eq_true, not_true_eq_false, ↓reduceIte, Int.reduceLT, Int.reduceLE, and_self, or_true, true_or, or_false, false_or, false_and, and_false, ah_t_w, ah_m_w, ah_n_w, lst1_0, List.tail_cons, w32_i, zbd, lst2_0, xt_1a hK2]
      refine c_143 (d := d + 1) hK2 hl2 (by rw [List.length_append, ln]; simp; omega) ez (fun h3 hl3 hO3 => ?_)
      rw [← ezm] at hl3
      simp (disch := omega) only [b_142_116, ↓w_iinc_1, ↓w_goto, ↓w_invokevirtual_1, stw_0, stw_i, stw_l, stw_r, ofK0, ofK1, ofK2, lst1, lst2, lkill, kont_none, kont_some, Int.reduceToNat, List.length_cons, List.length_nil, Nat.reduceAdd, Nat.reduceLeDiff, Nat.zero_le, true_and, and_true, if_true, if_false, ne_eq, Int.reduceEq, Int.reduceNeg, not_false_eq_true, not_true_eq_false, ↓reduceIte, Int.reduceLT, Int.reduceLE, and_self, or_true, true_or, or_false, false_or, false_and, and_false, ah_t_w, ah_m_w, ah_n_w, lst1_0, List.tail_cons, w32_i, zbd, lst2_0]
      exact ih (k + 1) h3 (by omega) (XA_off hA2 h40 hO3 Wim_ok) hl3 (Off_tr hO2 hO3)
    have fst : ∀ z, z % 256 = zgi nw ((2 * k : Nat) : Int) → wpB (d + 2) 142 82 [some (.inr (.inr 1)), some (.inl k)] [.inl z, .inr (.inr 1)] h' Q := by
      intro z ez
      simp (disch := omega) only [q_142_82, b_142_82, ↓w_iconst, ↓w_sipush, ↓w_aload_n_0, ↓w_iload_n_1, ↓w_getfield, ↓w_iaload, ↓w_goto, ↓w_if_icmp_ne, ↓w_invokevirtual_1, stw_0, stw_i, stw_l, stw_r, ofK0, ofK1, ofK2, lst1, lst2, lkill, kont_none, kont_some, Int.reduceToNat, List.length_cons, List.length_nil, Nat.reduceAdd, Nat.reduceLeDiff, Nat.zero_le, true_and, and_true, if_true, if_false, ne_eq, Int.reduceEq, Int.reduceNeg, not_false_eq_true, not_true_eq_false, ↓reduceIte, Int.reduceLT, Int.reduceLE, and_self, or_true, true_or, or_false, false_or, false_and, and_false, ah_t_w, ah_m_w, ah_n_w, lst1_0, List.tail_cons, w32_i, zbd, lst2_0, xt_1a hK, xf_1_12 hK]
      refine c_143 (d := d + 1) hK hl (by rw [ln]; omega) ez (fun h2 hl2 hO2 => ?_)
      have hA2 := XA_off hA' h40 hO2 Wim_ok
      have sec := sec h2 hA2 hl2 (Off_tr hO hO2)
      have hK2 := hA2.1
      have hS2 := hA2.2.1
      have ep2 := sp hS2 m0 hlt
      rcases hb with q | q
      · have q1 := q.1
        have q2 : nw (3 + 2 * k) = -1 := by rcases hv with u | u; exact u.2; omega
        have sec := sec 255 (by rw [e2, if_pos q2]; rfl)
        simp (disch := omega) only [b_142_82, ↓w_iconst, ↓w_sipush, ↓w_aload_n_0, ↓w_iload_n_1, ↓w_getfield, ↓w_iaload, ↓w_goto, ↓w_if_icmp_ne, ↓w_invokevirtual_1, stw_0, stw_i, stw_l, stw_r, ofK0, ofK1, ofK2, lst1, lst2, lkill, kont_none, kont_some, Int.reduceToNat, List.length_cons, List.length_nil, Nat.reduceAdd, Nat.reduceLeDiff, Nat.zero_le, true_and, and_true, if_true, if_false, ne_eq, Int.reduceEq, Int.reduceNeg, not_false_eq_true, not_true_eq_false, ↓reduceIte, Int.reduceLT, Int.reduceLE, and_self, or_true, true_or, or_false, false_or, false_and, and_false, ah_t_w, ah_m_w, ah_n_w, lst1_0, List.tail_cons, w32_i, zbd, lst2_0, xt_1a hK2, xf_1_12 hK2, s_t hK2 hS2, s_3 hK2 hS2, s_3a hK2 hS2, s_3b hK2 hS2, ep2, m0, m8, q1]
        exact sec
      · have q1 : ¬ zpl5 nw k = -1 := by omega
        have q2 := td5 q.1.1; have q3 := q.2.2.1
        have q4 : ¬ nw (3 + 2 * k) = -1 := by rcases hv with u | u; exact absurd u.1 q.2.2.2; omega
        have sec := sec (nw (3 + 2 * k)) (by rw [e2, if_neg q4]; rcases hv with u | u; exact absurd u.1 q.2.2.2; omega)
        simp (disch := omega) only [b_142_82, q_142_105, b_142_105, ↓w_iconst, ↓w_sipush, ↓w_aload_n_0, ↓w_iload_n_1, ↓w_idiv, ↓w_getfield, ↓w_iaload, ↓w_nop, ↓w_goto, ↓w_if_icmp_ne, ↓w_invokevirtual_1, stw_0, stw_i, stw_l, stw_r, ofK0, ofK1, ofK2, lst1, lst2, lkill, kont_none, kont_some, Int.reduceToNat, List.length_cons, List.length_nil, Nat.reduceAdd, Nat.reduceLeDiff, Nat.zero_le, true_and, and_true, if_true, if_false, ne_eq, Int.reduceEq, Int.reduceNeg, not_false_eq_true, not_true_eq_false, ↓reduceIte, Int.reduceLT, Int.reduceLE, and_self, or_true, true_or, or_false, false_or, false_and, and_false, ah_t_w, ah_m_w, ah_n_w, lst1_0, List.tail_cons, w32_i, zbd, lst2_0, xt_1a hK2, xf_1_12 hK2, s_t hK2 hS2, s_3 hK2 hS2, s_3a hK2 hS2, s_3b hK2 hS2, ep2, m0, m8, q1, q2, q3]
        exact sec
    rw [q_142_43]
    rcases hb with q | q
    · have q1 := q.1
      have fst := fst 255 (by rw [e1, if_pos q.2]; rfl)
      simp (disch := omega) only [b_142_43, ↓w_iconst, ↓w_sipush, ↓w_aload_n_0, ↓w_iload_n_1, ↓w_getfield, ↓w_iaload, ↓w_goto, ↓w_if_icmp_ne, ↓w_if_icmp_ge, ↓w_invokevirtual_0, stw_0, stw_i, stw_l, stw_r, ofK0, ofK1, ofK2, lst1, lst2, lkill, kont_none, kont_some, Int.reduceToNat, List.length_cons, List.length_nil, Nat.reduceAdd, Nat.reduceLeDiff, Nat.zero_le, true_and, and_true, if_true, if_false, ne_eq, Int.reduceEq, Int.reduceNeg, not_false_eq_true, not_true_eq_false, ↓reduceIte, Int.reduceLT, Int.reduceLE, and_self, or_true, true_or, or_false, false_or, false_and, and_false, ah_t_w, ah_m_w, ah_n_w, lst1_0, List.tail_cons, w32_i, zbd, lst2_0, xt_1a hK, xf_1_12 hK, s_t hK hS, s_3 hK hS, s_3a hK hS, s_3b hK hS, c_81 hK, hlt, ep, m0, m8, q1]
      exact fst
    · have q1 : ¬ zpl5 nw k = -1 := by omega
      have q2 := tm5 q.1.1; have q3 := q.2.1
      have fst := fst (nw (2 + 2 * k)) (by rw [e1, if_neg q.2.2.2]; rcases hv with u | u; exact absurd u.1 q.2.2.2; omega)
      simp (disch := omega) only [b_142_43, q_142_71, b_142_71, ↓w_iconst, ↓w_sipush, ↓w_aload_n_0, ↓w_iload_n_1, ↓w_irem, ↓w_getfield, ↓w_iaload, ↓w_nop, ↓w_goto, ↓w_if_icmp_ne, ↓w_if_icmp_ge, ↓w_invokevirtual_0, stw_0, stw_i, stw_l, stw_r, ofK0, ofK1, ofK2, lst1, lst2, lkill, kont_none, kont_some, Int.reduceToNat, List.length_cons, List.length_nil, Nat.reduceAdd, Nat.reduceLeDiff, Nat.zero_le, true_and, and_true, if_true, if_false, ne_eq, Int.reduceEq, Int.reduceNeg, not_false_eq_true, not_true_eq_false, ↓reduceIte, Int.reduceLT, Int.reduceLE, and_self, or_true, true_or, or_false, false_or, false_and, and_false, ah_t_w, ah_m_w, ah_n_w, lst1_0, List.tail_cons, w32_i, zbd, lst2_0, xt_1a hK, xf_1_12 hK, s_t hK hS, s_3 hK hS, s_3a hK hS, s_3b hK hS, c_81 hK, hlt, ep, m0, m8, q1, q2, q3]
      exact fst
theorem ishr_8 (h0 : 0 ≤ z) (h1 : z < 10000) : ishr_ z 8 = z / 256 := by
  obtain ⟨u, rfl⟩ : ∃ u : Nat, z = u := ⟨z.toNat, by omega⟩
  have := ishr_nat u (by omega) 8 (by decide)
  rw [show ((8 : Nat) : Int) = 8 from rfl] at this
  rw [this]; omega
theorem l_142_127 {pre : List Int} (hA : XA T nw h) (hF : FV nw) (hp : pre.length ≤ 19) (hQ : ∀ h' m, XA T nw h' → XOp (pre ++ zfl2 nw (T 1072 5).toNat) h' → Off Wim h h' → wpB (d + 2) 142 170 [some (.inr (.inr 1)), some (.inl m)] [] h' Q) :
    ∀ (j : Nat) (k : Nat) h', (k : Int) + j = T 1072 5 → XA T nw h' → XOp (pre ++ zfl2 nw k) h' → Off Wim h h' → wpB (d + 2) 142 127 [some (.inr (.inr 1)), some (.inl k)] [] h' Q := by
  have h40 := hF.2.2.2
  have n6 := hA.1.2.2.2.2.1
  intro j
  induction j with
  | zero =>
    intro k h' k1 hA' hl hO
    have hK := hA'.1
    have hlt : ¬ (k : Int) < T 1072 5 := by omega
    simp (disch := omega) only [q_142_127, b_142_127, ↓w_bipush, ↓w_aload_n_0, ↓w_iload_n_1, ↓w_iinc_1, ↓w_ishr, ↓w_getfield, ↓w_iaload, ↓w_goto, ↓w_if_icmp_ge, ↓w_invokevirtual_0, ↓w_invokevirtual_1, stw_0, stw_i, stw_l, stw_r, ofK0, ofK1, ofK2, lst1, lst2, lkill, kont_none, kont_some, Int.reduceToNat, List.length_cons, List.length_nil, Nat.reduceAdd, Nat.reduceLeDiff, Nat.zero_le, true_and, and_true, if_true, if_false, ne_eq, Int.reduceEq, Int.reduceNeg, not_false_eq_true, not_true_eq_false, ↓reduceIte, Int.reduceLT, Int.reduceLE, and_self, or_true, true_or, or_false, false_or, false_and, and_false, ah_t_w, ah_m_w, ah_n_w, lst1_0, List.tail_cons, w32_i, zbd, lst2_0, xt_1a hK, xf_1_12 hK, c_95 hK, hlt]
    refine hQ h' k hA' ?_ hO
    rw [show (T 1072 5).toNat = k by omega]; exact hl
  | succ j ih =>
    intro k h' k1 hA' hl hO
    have hK := hA'.1
    have hS := hA'.2.1
    have hlt : (k : Int) < T 1072 5 := by omega
    have m8 : (k : Int) < 6 := by omega
    have m0 : 0 ≤ (k : Int) := by omega
    have eb := sb hS m0 hlt
    have hb := hF.2.1 k m0 m8
    have ln : (pre ++ zfl2 nw k).length = pre.length + 2 * k := by rw [List.length_append, zfl2_len]
    have ezm : pre ++ zfl2 nw (k + 1) = (pre ++ zfl2 nw k) ++ [nw (18 + k) / 256] ++ [nw (18 + k) % 256] := by
      simp only [zfl2, zfb, List.append_assoc]; rfl
    have e8 := ishr_8 (z := nw (18 + k)) (by omega) (by omega)
    rw [q_142_127]
    simp (disch := omega) only [b_142_127, ↓w_bipush, ↓w_aload_n_0, ↓w_iload_n_1, ↓w_iinc_1, ↓w_ishr, ↓w_getfield, ↓w_iaload, ↓w_goto, ↓w_if_icmp_ge, ↓w_invokevirtual_0, ↓w_invokevirtual_1, stw_0, stw_i, stw_l, stw_r, ofK0, ofK1, ofK2, lst1, lst2, lkill, kont_none, kont_some, Int.reduceToNat, List.length_cons, List.length_nil, Nat.reduceAdd, Nat.reduceLeDiff, Nat.zero_le, true_and, and_true, if_true, if_false, ne_eq, Int.reduceEq, Int.reduceNeg, not_false_eq_true, not_true_eq_false, ↓reduceIte, Int.reduceLT, Int.reduceLE, and_self, or_true, true_or, or_false, false_or, false_and, and_false, ah_t_w, ah_m_w, ah_n_w, lst1_0, List.tail_cons, w32_i, zbd, lst2_0, xt_1a hK, xf_1_12 hK, s_t hK hS, s_5 hK hS, s_5a hK hS, s_5b hK hS, c_95 hK, hlt, eb, m0, m8, e8]
    refine c_143 (d := d + 1) (v := nw (18 + k) / 256) hK hl (by rw [ln]; omega) (by omega) (fun h2 hl2 hO2 => ?_)
    have hA2 := XA_off hA' h40 hO2 Wim_ok
    have hK2 := hA2.1
    have hS2 := hA2.2.1
    have eb2 := sb hS2 m0 hlt
    simp (disch := omega) only [b_142_127, ↓w_bipush, ↓w_aload_n_0, ↓w_iload_n_1, ↓w_iinc_1, ↓w_ishr, ↓w_getfield, ↓w_iaload, ↓w_goto, ↓w_if_icmp_ge, ↓w_invokevirtual_0, ↓w_invokevirtual_1, stw_0, stw_i, stw_l, stw_r, ofK0, ofK1, ofK2, lst1, lst2, lkill, kont_none, kont_some, Int.reduceToNat, List.length_cons, List.length_nil, Nat.reduceAdd, Nat.reduceLeDiff, Nat.zero_le, true_and, and_true, if_true, if_false, ne_eq, Int.reduceEq, Int.reduceNeg, not_false_eq_true, not_true_eq_false, ↓reduceIte, Int.reduceLT, Int.reduceLE, and_self, or_true, true_or, or_false, false_or, false_and, and_false, ah_t_w, ah_m_w, ah_n_w, lst1_0, List.tail_cons, w32_i, zbd, lst2_0, xt_1a hK2, xf_1_12 hK2, s_t hK2 hS2, s_5 hK2 hS2, s_5a hK2 hS2, s_5b hK2 hS2, eb2, m0, m8]
    refine c_143 (d := d + 1) (v := nw (18 + k) % 256) hK2 hl2 (by rw [List.length_append, ln]; simp; omega) rfl (fun h3 hl3 hO3 => ?_)
    rw [← ezm] at hl3
    simp (disch := omega) only [b_142_127, ↓w_bipush, ↓w_aload_n_0, ↓w_iload_n_1, ↓w_iinc_1, ↓w_ishr, ↓w_getfield, ↓w_iaload, ↓w_goto, ↓w_if_icmp_ge, ↓w_invokevirtual_0, ↓w_invokevirtual_1, stw_0, stw_i, stw_l, stw_r, ofK0, ofK1, ofK2, lst1, lst2, lkill, kont_none, kont_some, Int.reduceToNat, List.length_cons, List.length_nil, Nat.reduceAdd, Nat.reduceLeDiff, Nat.zero_le, true_and, and_true, if_true, if_false, ne_eq, Int.reduceEq, Int.reduceNeg, not_false_eq_true, not_true_eq_false, ↓reduceIte, Int.reduceLT, Int.reduceLE, and_self, or_true, true_or, or_false, false_or, false_and, and_false, ah_t_w, ah_m_w, ah_n_w, lst1_0, List.tail_cons, w32_i, zbd, lst2_0]
    exact ih (k + 1) h3 (by omega) (XA_off hA2 h40 hO3 Wim_ok) hl3 (Off_tr hO (Off_tr hO2 hO3))
theorem c_142 (hA : XA T nw h) (hX : NX T nw) (hF : FV nw) (hQ : ∀ h', XA T nw h' → XOp (zimg T nw) h' → Off Wim h h' → Q (.inl (some (.inl (zimg T nw).length))) h') : wpC (d + 3) 142 [.inr (.inr 1)] h Q := by
  have hK := hA.1
  have hS := hA.2.1
  have h40 := hF.2.2.2
  have n8 := hK.2.2.2.1; have n6 := hK.2.2.2.2.1
  have d0 := hF.1
  have hside := (NX_N hX).2.2.2
  have hO0 : Off Wim h (ah_w h 1 24 0) := Off_w Off_rfl (Or.inr ⟨rfl, rfl⟩)
  have hA0 := XA_off hA h40 hO0 Wim_ok
  have hl0 : XOp [] (ah_w h 1 24 0) := ⟨by rw [ah_m_w, if_pos ⟨rfl, rfl⟩]; rfl, fun i a b => by simp at b; omega⟩
  have e8 := ishr_8 (z := nw 0) (by omega) (by omega)
  rw [wpC_B]; refine ⟨⟨Nat.zero_lt_succ _, Nat.le_of_ble_eq_true rfl⟩, ?_⟩; simp only [lent]
  simp (disch := omega) only [q_142_0, b_142_0, ↓w_iconst, ↓w_bipush, ↓w_aload_n_0, ↓w_istore_n_1, ↓w_ishr, ↓w_getfield, ↓w_putfield_0, ↓w_nop, ↓w_invokevirtual_1, stw_0, stw_i, stw_l, stw_r, ofK0, ofK1, ofK2, lst1, lst2, lkill, kont_none, kont_some, Int.reduceToNat, List.length_cons, List.length_nil, Nat.reduceAdd, Nat.reduceLeDiff, Nat.zero_le, true_and, and_true, if_true, if_false, ne_eq, Int.reduceEq, Int.reduceNeg, not_false_eq_true, not_true_eq_false, ↓reduceIte, Int.reduceLT, Int.reduceLE, and_self, or_true, true_or, or_false, false_or, false_and, and_false, ah_t_w, ah_m_w, ah_n_w, lst1_0, List.tail_cons, w32_i, zbd, lst2_0, xt_1a hK, xf_1_12 hK, s_t hK hS, s_0 hS, s_1 hS, e8]
  generalize hg0 : ah_w h 1 24 0 = g0 at *
  refine c_143 (d := d + 1) (v := nw 0 / 256) hA0.1 hl0 (by decide) (by omega) (fun h1 hl1 hO1 => ?_)
  have hA1 := XA_off hA0 h40 hO1 Wim_ok
  have hK1 := hA1.1
  have hS1 := hA1.2.1
  simp (disch := omega) only [b_142_0, ↓w_iconst, ↓w_bipush, ↓w_aload_n_0, ↓w_istore_n_1, ↓w_ishr, ↓w_getfield, ↓w_putfield_0, ↓w_nop, ↓w_invokevirtual_1, stw_0, stw_i, stw_l, stw_r, ofK0, ofK1, ofK2, lst1, lst2, lkill, kont_none, kont_some, Int.reduceToNat, List.length_cons, List.length_nil, Nat.reduceAdd, Nat.reduceLeDiff, Nat.zero_le, true_and, and_true, if_true, if_false, ne_eq, Int.reduceEq, Int.reduceNeg, not_false_eq_true, not_true_eq_false, ↓reduceIte, Int.reduceLT, Int.reduceLE, and_self, or_true, true_or, or_false, false_or, false_and, and_false, ah_t_w, ah_m_w, ah_n_w, lst1_0, List.tail_cons, w32_i, zbd, lst2_0, xt_1a hK1, xf_1_12 hK1, s_t hK1 hS1, s_0 hS1, s_1 hS1]
  refine c_143 (d := d + 1) (v := nw 0 % 256) hK1 hl1 (by simp) rfl (fun h2 hl2 hO2 => ?_)
  have hA2 := XA_off hA1 h40 hO2 Wim_ok
  have hK2 := hA2.1
  have hS2 := hA2.2.1
  simp (disch := omega) only [b_142_0, ↓w_iconst, ↓w_bipush, ↓w_aload_n_0, ↓w_istore_n_1, ↓w_ishr, ↓w_getfield, ↓w_putfield_0, ↓w_nop, ↓w_invokevirtual_1, stw_0, stw_i, stw_l, stw_r, ofK0, ofK1, ofK2, lst1, lst2, lkill, kont_none, kont_some, Int.reduceToNat, List.length_cons, List.length_nil, Nat.reduceAdd, Nat.reduceLeDiff, Nat.zero_le, true_and, and_true, if_true, if_false, ne_eq, Int.reduceEq, Int.reduceNeg, not_false_eq_true, not_true_eq_false, ↓reduceIte, Int.reduceLT, Int.reduceLE, and_self, or_true, true_or, or_false, false_or, false_and, and_false, ah_t_w, ah_m_w, ah_n_w, lst1_0, List.tail_cons, w32_i, zbd, lst2_0, xt_1a hK2, xf_1_12 hK2, s_t hK2 hS2, s_0 hS2, s_1 hS2]
  refine c_143 (d := d + 1) (v := nw 1) hK2 hl2 (by simp) (by omega) (fun h3 hl3 hO3 => ?_)
  have hA3 := XA_off hA2 h40 hO3 Wim_ok
  have hO3' : Off Wim h h3 := Off_tr hO0 (Off_tr hO1 (Off_tr hO2 hO3))
  have hl3 : XOp ([nw 0 / 256, nw 0 % 256, nw 1] ++ zml nw (2 * 0)) h3 := hl3
  simp (disch := omega) only [b_142_0, ↓w_iconst, ↓w_bipush, ↓w_aload_n_0, ↓w_istore_n_1, ↓w_ishr, ↓w_getfield, ↓w_putfield_0, ↓w_nop, ↓w_invokevirtual_1, stw_0, stw_i, stw_l, stw_r, ofK0, ofK1, ofK2, lst1, lst2, lkill, kont_none, kont_some, Int.reduceToNat, List.length_cons, List.length_nil, Nat.reduceAdd, Nat.reduceLeDiff, Nat.zero_le, true_and, and_true, if_true, if_false, ne_eq, Int.reduceEq, Int.reduceNeg, not_false_eq_true, not_true_eq_false, ↓reduceIte, Int.reduceLT, Int.reduceLE, and_self, or_true, true_or, or_false, false_or, false_and, and_false, ah_t_w, ah_m_w, ah_n_w, lst1_0, List.tail_cons, w32_i, zbd, lst2_0]
  refine l_142_43 (d := d) hA3 hX hF rfl (fun h4 m4 hA4 hl4 hO4 => ?_) (T 1072 4).toNat 0 h3 (by omega) hA3 hl3 Off_rfl
  have hl4' : XOp (([nw 0 / 256, nw 0 % 256, nw 1] ++ zml nw (2 * T 1072 4).toNat) ++ zfl2 nw 0) h4 := by rw [show zfl2 nw 0 = [] from rfl, List.append_nil]; exact hl4
  have lp : ([nw 0 / 256, nw 0 % 256, nw 1] ++ zml nw (2 * T 1072 4).toNat).length ≤ 19 := by rw [List.length_append, zml_len]; simp; omega
  simp (disch := omega) only [q_142_125, b_142_125, ↓w_iconst, ↓w_istore_n_1, ↓w_nop, stw_0, stw_i, stw_l, stw_r, ofK0, ofK1, ofK2, lst1, lst2, lkill, kont_none, kont_some, Int.reduceToNat, List.length_cons, List.length_nil, Nat.reduceAdd, Nat.reduceLeDiff, Nat.zero_le, true_and, and_true, if_true, if_false, ne_eq, Int.reduceEq, Int.reduceNeg, not_false_eq_true, not_true_eq_false, ↓reduceIte, Int.reduceLT, Int.reduceLE, and_self, or_true, true_or, or_false, false_or, false_and, and_false, ah_t_w, ah_m_w, ah_n_w, lst1_0, List.tail_cons, w32_i, zbd, lst2_0]
  refine l_142_127 (d := d) hA4 hF lp (fun h5 m5 hA5 hl5 hO5 => ?_) (T 1072 5).toNat 0 h4 (by omega) hA4 hl4' Off_rfl
  have hl5 : XOp (zim0 T nw) h5 := hl5
  have hK5 := hA5.1
  have ln : (zim0 T nw).length ≤ 31 := by unfold zim0; rw [List.length_append, zfl2_len]; omega
  have e24 := hl5.1
  have t1 := xt_1035a hK5
  have t2 := xt_1035b hK5
  have ck : zck2 (fun i => ah_m h5 1035 i % 256) ((zim0 T nw).length : Int).toNat 0 59 = zck2 (zlf (zim0 T nw)) (zim0 T nw).length 0 59 := by
    rw [Int.toNat_natCast]
    exact zck2_c _ _ _ (fun i a b => (hl5.2 i a (by omega)).2)
  have ckb : ∀ (F : Int → Int) (j : Nat) (k c : Int), 0 ≤ c → c < 251 → 0 ≤ zck2 F j k c ∧ zck2 F j k c < 251 := by
    intro F j
    induction j with
    | zero => intro k c a b; exact ⟨a, b⟩
    | succ j ih => intro k c a b; simp only [zck2]; exact ih _ _ (Int.emod_nonneg _ (by decide)) (Int.emod_lt_of_pos _ (by decide))
  have cb := ckb (zlf (zim0 T nw)) (zim0 T nw).length 0 59 (by decide) (by decide)
  simp (disch := omega) only [q_142_170, b_142_170, ↓w_aload_n_0, ↓w_getfield, ↓w_ireturn0, ↓w_invokevirtual_1, ↓w_invokestatic_2, stw_0, stw_i, stw_l, stw_r, ofK0, ofK1, ofK2, lst1, lst2, lkill, kont_none, kont_some, Int.reduceToNat, List.length_cons, List.length_nil, Nat.reduceAdd, Nat.reduceLeDiff, Nat.zero_le, true_and, and_true, if_true, if_false, ne_eq, Int.reduceEq, Int.reduceNeg, not_false_eq_true, not_true_eq_false, ↓reduceIte, Int.reduceLT, Int.reduceLE, and_self, or_true, true_or, or_false, false_or, false_and, and_false, ah_t_w, ah_m_w, ah_n_w, lst1_0, List.tail_cons, w32_i, zbd, lst2_0, xt_1a hK5, xf_1_23 hK5, xt_1035a hK5, xt_1035b hK5, e24, c_144 (r := 1035) (h := h5) t1 (show 0 ≤ ((zim0 T nw).length : Int) by omega) (show ((zim0 T nw).length : Int) ≤ (ah_t h5 1035).2 by omega) (by omega), ck]
  refine c_143 (d := d + 1) (v := zck2 (zlf (zim0 T nw)) (zim0 T nw).length 0 59) hK5 hl5 (by omega) (by omega) (fun h6 hl6 hO6 => ?_)
  have hA6 := XA_off hA5 h40 hO6 Wim_ok
  have hl6 : XOp (zimg T nw) h6 := hl6
  have hK6 := hA6.1
  have e6 := hl6.1
  simp (disch := omega) only [b_142_170, ↓w_aload_n_0, ↓w_getfield, ↓w_ireturn0, ↓w_invokevirtual_1, ↓w_invokestatic_2, stw_0, stw_i, stw_l, stw_r, ofK0, ofK1, ofK2, lst1, lst2, lkill, kont_none, kont_some, Int.reduceToNat, List.length_cons, List.length_nil, Nat.reduceAdd, Nat.reduceLeDiff, Nat.zero_le, true_and, and_true, if_true, if_false, ne_eq, Int.reduceEq, Int.reduceNeg, not_false_eq_true, not_true_eq_false, ↓reduceIte, Int.reduceLT, Int.reduceLE, and_self, or_true, true_or, or_false, false_or, false_and, and_false, ah_t_w, ah_m_w, ah_n_w, lst1_0, List.tail_cons, w32_i, zbd, lst2_0, xt_1a hK6, xf_1_23 hK6, xt_1035a hK6, xt_1035b hK6, e6]
  exact hQ h6 hA6 hl6 (Off_tr hO3' (Off_tr hO4 (Off_tr hO5 hO6)))
end A5
