/-! ===== X: option, kept, balance, value, best, tape ===== -/
/-- X's tape tells the bytes -/
def XTp (tp : Int → Int) (n : Int) (h : AH) : Prop := ∀ i, 0 ≤ i → i < n → (-128 ≤ ah_m h 10 i ∧ ah_m h 10 i < 128) ∧ ah_m h 10 i % 256 = tp i
section Z3
variable {W : Int → Int → Prop} {d : Nat} {h h' h1 h0 : AH} {Q : QQ} {x y z m k s l w a b v n p r o i f D0 D1 e : Int} {S T T' : Int → Int → Int} {t nw nw' pt of tp : Int → Int} {tl : ALoc} {c : Int × Int × Int}
set_option maxHeartbeats 4000000
theorem iand_255 (z : Int) : iand_ z 255 = z % 256 := by
  unfold iand_
  have e1 : (Int32.ofInt z &&& Int32.ofInt 255).toInt = (BitVec.ofInt 32 z &&& 255#32).toInt := rfl
  have e2 : (BitVec.ofInt 32 z &&& 255#32).toNat = (z % 256).toNat := by
    rw [BitVec.toNat_and, BitVec.toNat_ofInt]
    have : (255#32).toNat = 2 ^ 8 - 1 := rfl
    rw [this, Nat.and_two_pow_sub_one_eq_mod]
    omega
  rw [e1, BitVec.toInt_eq_toNat_cond, e2]
  have h1 : 0 ≤ z % 256 := Int.emod_nonneg _ (by decide)
  have h2 : z % 256 < 256 := Int.emod_lt_of_pos _ (by decide)
  rw [if_pos (by omega)]
  omega
theorem w8_b (z : Int) : (-128 ≤ w8 z ∧ w8 z < 128) ∧ w8 z % 256 = z % 256 := by unfold w8; omega
theorem zpk_lt {q : Int × Int} : ∀ (L : List (Int × Int)) (i w : Int), zpk L i w = some q → i ≤ w ∧ w < i + L.length := by
  intro L
  induction L with
  | nil => intro i w e; cases e
  | cons x L ih =>
    intro i w e
    unfold zpk at e
    by_cases g : i = w
    · simp; omega
    · rw [if_neg g] at e; have := ih _ _ e; simp; omega
theorem zpk_some : ∀ (L : List (Int × Int)) (i w : Int), i ≤ w → w < i + L.length → ∃ q, zpk L i w = some q := by
  intro L
  induction L with
  | nil => intro i w a b; simp at b; omega
  | cons x L ih =>
    intro i w a b
    unfold zpk
    by_cases g : i = w
    · rw [if_pos g]; exact ⟨_, rfl⟩
    · rw [if_neg g]; exact ih _ _ (by omega) (by simp at b; omega)
theorem zpk_none : ∀ (L : List (Int × Int)) (i w : Int), ¬ (i ≤ w ∧ w < i + L.length) → zpk L i w = none := by
  intro L i w hh
  cases e : zpk L i w with
  | none => rfl
  | some q => exact absurd (zpk_lt L i w e) hh
/-- a copy to think with -/
theorem cpy (hA : XA T nw h) (hF : FV nw) (hQ : ∀ h', XA T nw h' → XS T nw 70 h' → Off (Wcp 70) h h' → Q (.inl (some (.inr (.inr 70)))) h') : wpC (d + 1) 220 [.inr (.inr 70), .inr (.inr 25)] h Q := by
  refine c_220 hA.1 hA.2.1 is70 (by decide) (hA.2.2.2 70 is70) hF.2.2.2 hF.2.2.1 (fun h' hK' hS' hS2 hO => ?_)
  have hO' := Off_mono Wth_cp hO
  exact hQ h' (XA_th hA hF.2.2.2 hO' hS'.2.2.2.2.2.2) hS' hO
theorem c_107 (hA : XA T nw h) (hX : NX T nw) (hF : FV nw) (hQ : ∀ h', XA T nw h' → Off Wth h h' → Q (.inl (some (.inl (zopt T nw k w)))) h') : wpC (d + 9) 107 [.inr (.inr 1), .inl k, .inl w] h Q := by
  have h40 := hF.2.2.2
  have hV : isV 22 := by unfold isV; omega
  have hT := NX_T hX
  have hC := hA.1.2.2.2.2.2.1; have hR := hA.1.2.2.2.2.2.2.1
  rw [wpC_B]; refine ⟨⟨Nat.zero_lt_succ _, Nat.le_of_ble_eq_true rfl⟩, ?_⟩; simp only [lent]
  have hK := hA.1
  have hS := hA.2.1
  simp (disch := omega) only [q_107_0, b_107_0, ↓w_iconst, ↓w_aload_n_0, ↓w_iload_n_1, ↓w_iload_n_2, ↓w_isub, ↓w_nop, ↓w_ifCond_eq, ↓w_ifCond_ne, ↓w_invokevirtual_0, ↓w_invokestatic_3, stw_0, stw_i, stw_l, stw_r, ofK0, ofK1, ofK2, lst1, lst2, lkill, kont_none, kont_some, Int.reduceToNat, List.length_cons, List.length_nil, Nat.reduceAdd, Nat.reduceLeDiff, Nat.zero_le, true_and, and_true, if_true, if_false, ne_eq, Int.reduceEq, Int.reduceNeg, not_false_eq_true, not_true_eq_false, ↓reduceIte, Int.reduceLT, Int.reduceLE, and_self, or_true, true_or, or_false, false_or, false_and, and_false, ah_t_w, ah_m_w, ah_n_w, lst1_0, List.tail_cons, w32_i, zbd, lst2_0, xt_1a hK]
  refine c_108 (d := d) hA hX h40 (fun h1 hA1 hx hlen hO1 => ?_)
  have hO1' := Off_mono (Wth_mv hV) hO1
  have hQ1 := hQ h1 hA1 hO1'
  have el := @zav_len T nw
  have hb : 0 ≤ (zall T nw : Int) ∧ (zall T nw : Int) ≤ 200 := by rw [← el]; omega
  have hK1 := hA1.1
  have hS1 := hA1.2.1
  have ezo : (0 ≤ w ∧ w ≤ 4) → zopt T nw k w = (match zpk (zav T nw) 0 k with | none => -1 | some x => if w = 0 then x.1 else if w = 1 then x.2 % T 1074 4 else if w = 2 then x.2 / T 1074 4 else if w = 3 then (if zat T nw (x.2 % T 1074 4) (x.2 / T 1074 4) = -1 then 255 else zat T nw (x.2 % T 1074 4) (x.2 / T 1074 4)) else zb (zchk T (zdo T nw x.1 x.2) (zdo T nw x.1 x.2 1))) := by
    intro hw
    unfold zopt
    rw [if_pos hw]
    unfold zav
    by_cases g2 : zcr T nw = true
    · rw [if_pos (Or.inr g2), if_pos g2]; rfl
    · rw [if_neg (c := zcr T nw = true) g2]
      by_cases g3 : k < 0
      · rw [if_pos (Or.inl g3), zpk_none _ _ _ (by omega)]
      · rw [if_neg (by intro q; rcases q with q | q; exact g3 q; exact g2 q)]; rfl
  by_cases g : 0 ≤ k ∧ k ≤ (zall T nw : Int) - 1
  · by_cases gw : 0 ≤ w ∧ w ≤ 4
    · obtain ⟨q, hq⟩ := zpk_some (zav T nw) 0 k (by omega) (by rw [el]; omega)
      have ezo := ezo gw
      rw [hq] at ezo
      have hpx := XMl_pk _ _ hx.2 hq
      have hmem : q ∈ zmv T nw := by
        have := zpk_mem _ _ _ hq
        unfold zav at this
        split at this
        · cases this
        · exact this
      have ho := mv_ok hX hmem
      obtain ⟨hh, hG⟩ := id hX
      have hkk := zkk hG ho.2.2.1.1 ho.2.2.1.2
      have hp25 : 0 ≤ zp5 T q.2 ∧ zp5 T q.2 < 25 := by unfold zp5; omega
      have t1 := tm5 hp25.1; have t2 := td5 hp25.1
      have t3 : zp5 T q.2 % 5 = q.2 % T 1074 4 := by unfold zp5; omega
      have t4 : zp5 T q.2 / 5 = q.2 / T 1074 4 := by unfold zp5; omega
      have e1 := hpx.1.1
      have e2 := hpx.1.2
      have k0 := g.1
      have k2 : k < 200 := by omega
      have p0 := hp25.1; have p1 := hp25.2
      have c1 : ∀ {Q : QQ}, wpC (d + 8) 92 [.inl k, .inl 0, .inl ((zall T nw : Int) - 1)] h1 Q ↔ Q (.inl (some (.inl 1))) h1 := by intro Q; rw [c_92, if_pos g]
      have c2 : ∀ {Q : QQ}, wpC (d + 8) 92 [.inl w, .inl 0, .inl 4] h1 Q ↔ Q (.inl (some (.inl 1))) h1 := by intro Q; rw [c_92, if_pos gw]
      by_cases w0 : w = 0
      · subst w0
        simp only [↓reduceIte] at ezo
        rw [ezo] at hQ1
        simp (disch := omega) only [b_107_0, q_107_25, b_107_25, q_107_70, b_107_70, ↓w_iconst, ↓w_aload_n_0, ↓w_iload_n_1, ↓w_iload_n_2, ↓w_istore_n_3, ↓w_isub, ↓w_getfield, ↓w_iaload, ↓w_nop, ↓w_goto, ↓w_ifCond_eq, ↓w_ifCond_ne, ↓w_if_icmp_ge, ↓w_ireturn0, ↓w_invokevirtual_0, ↓w_invokestatic_3, stw_0, stw_i, stw_l, stw_r, ofK0, ofK1, ofK2, lst1, lst2, lkill, kont_none, kont_some, Int.reduceToNat, List.length_cons, List.length_nil, Nat.reduceAdd, Nat.reduceLeDiff, Nat.zero_le, true_and, and_true, if_true, if_false, ne_eq, Int.reduceEq, Int.reduceNeg, not_false_eq_true, not_true_eq_false, ↓reduceIte, Int.reduceLT, Int.reduceLE, and_self, or_true, true_or, or_false, false_or, false_and, and_false, ah_t_w, ah_m_w, ah_n_w, lst1_0, List.tail_cons, w32_i, zbd, lst2_0, xt_1a hK1, xf_1_11 hK1, vv_t hK1 hV, vv_0 hK1 hV, vv_0a hK1 hV, vv_0b hK1 hV, vv_1 hK1 hV, vv_1a hK1 hV, vv_1b hK1 hV, c1, c2, e1, e2, k0, k2]
        exact hQ1
      by_cases w1 : w = 1
      · subst w1
        simp only [Int.reduceEq, ↓reduceIte] at ezo
        rw [ezo] at hQ1
        simp (disch := omega) only [b_107_0, q_107_25, b_107_25, q_107_56, b_107_56, q_107_70, b_107_70, ↓w_iconst, ↓w_aload_n_0, ↓w_iload_n_1, ↓w_iload_n_2, ↓w_iload_n_3, ↓w_istore_n_3, ↓w_isub, ↓w_irem, ↓w_getfield, ↓w_iaload, ↓w_nop, ↓w_goto, ↓w_ifCond_eq, ↓w_ifCond_ne, ↓w_if_icmp_ne, ↓w_if_icmp_ge, ↓w_ireturn0, ↓w_invokevirtual_0, ↓w_invokestatic_3, stw_0, stw_i, stw_l, stw_r, ofK0, ofK1, ofK2, lst1, lst2, lkill, kont_none, kont_some, Int.reduceToNat, List.length_cons, List.length_nil, Nat.reduceAdd, Nat.reduceLeDiff, Nat.zero_le, true_and, and_true, if_true, if_false, ne_eq, Int.reduceEq, Int.reduceNeg, not_false_eq_true, not_true_eq_false, ↓reduceIte, Int.reduceLT, Int.reduceLE, and_self, or_true, true_or, or_false, false_or, false_and, and_false, ah_t_w, ah_m_w, ah_n_w, lst1_0, List.tail_cons, w32_i, zbd, lst2_0, xt_1a hK1, xf_1_11 hK1, vv_t hK1 hV, vv_0 hK1 hV, vv_0a hK1 hV, vv_0b hK1 hV, vv_1 hK1 hV, vv_1a hK1 hV, vv_1b hK1 hV, c1, c2, e1, e2, k0, k2, t1, t3]
        exact hQ1
      by_cases w2 : w = 2
      · subst w2
        simp only [Int.reduceEq, ↓reduceIte] at ezo
        rw [ezo] at hQ1
        simp (disch := omega) only [b_107_0, q_107_25, b_107_25, q_107_56, b_107_56, q_107_67, b_107_67, q_107_70, b_107_70, ↓w_iconst, ↓w_aload_n_0, ↓w_iload_n_1, ↓w_iload_n_2, ↓w_iload_n_3, ↓w_istore_n_3, ↓w_isub, ↓w_idiv, ↓w_irem, ↓w_getfield, ↓w_iaload, ↓w_nop, ↓w_goto, ↓w_ifCond_eq, ↓w_ifCond_ne, ↓w_if_icmp_ne, ↓w_if_icmp_ge, ↓w_ireturn0, ↓w_invokevirtual_0, ↓w_invokestatic_3, stw_0, stw_i, stw_l, stw_r, ofK0, ofK1, ofK2, lst1, lst2, lkill, kont_none, kont_some, Int.reduceToNat, List.length_cons, List.length_nil, Nat.reduceAdd, Nat.reduceLeDiff, Nat.zero_le, true_and, and_true, if_true, if_false, ne_eq, Int.reduceEq, Int.reduceNeg, not_false_eq_true, not_true_eq_false, ↓reduceIte, Int.reduceLT, Int.reduceLE, and_self, or_true, true_or, or_false, false_or, false_and, and_false, ah_t_w, ah_m_w, ah_n_w, lst1_0, List.tail_cons, w32_i, zbd, lst2_0, xt_1a hK1, xf_1_11 hK1, vv_t hK1 hV, vv_0 hK1 hV, vv_0a hK1 hV, vv_0b hK1 hV, vv_1 hK1 hV, vv_1a hK1 hV, vv_1b hK1 hV, c1, c2, e1, e2, k0, k2, t2, t4]
        exact hQ1
      have eo : ah_m h1 (25 + 2) (zp5 T q.2) = zat T nw (q.2 % T 1074 4) (q.2 / T 1074 4) := by
        rw [so hS1 p0 p1]; unfold zon5; rw [t3, t4]
      by_cases w3 : w = 3
      · subst w3
        simp only [Int.reduceEq, ↓reduceIte] at ezo
        rw [ezo] at hQ1
        by_cases g3 : zat T nw (q.2 % T 1074 4) (q.2 / T 1074 4) = -1
        · rw [if_pos g3] at hQ1
          simp (disch := omega) only [b_107_0, q_107_25, b_107_25, q_107_71, b_107_71, q_107_104, b_107_104, ↓w_iconst, ↓w_sipush, ↓w_aload_n_0, ↓w_iload_n_1, ↓w_iload_n_2, ↓w_iload_n_3, ↓w_istore_n_3, ↓w_isub, ↓w_getfield, ↓w_iaload, ↓w_nop, ↓w_goto, ↓w_ifCond_eq, ↓w_ifCond_ne, ↓w_if_icmp_ne, ↓w_if_icmp_ge, ↓w_ireturn0, ↓w_invokevirtual_0, ↓w_invokestatic_3, stw_0, stw_i, stw_l, stw_r, ofK0, ofK1, ofK2, lst1, lst2, lkill, kont_none, kont_some, Int.reduceToNat, List.length_cons, List.length_nil, Nat.reduceAdd, Nat.reduceLeDiff, Nat.zero_le, true_and, and_true, if_true, if_false, ne_eq, Int.reduceEq, Int.reduceNeg, not_false_eq_true, not_true_eq_false, ↓reduceIte, Int.reduceLT, Int.reduceLE, and_self, or_true, true_or, or_false, false_or, false_and, and_false, ah_t_w, ah_m_w, ah_n_w, lst1_0, List.tail_cons, w32_i, zbd, lst2_0, xt_1a hK1, xf_1_11 hK1, xf_1_12 hK1, vv_t hK1 hV, vv_0 hK1 hV, vv_0a hK1 hV, vv_0b hK1 hV, vv_1 hK1 hV, vv_1a hK1 hV, vv_1b hK1 hV, s_t hK1 hS1, s_4 hK1 hS1, s_4a hK1 hS1, s_4b hK1 hS1, c1, c2, e1, e2, k0, k2, eo, p0, p1, g3]
          exact hQ1
        · rw [if_neg g3] at hQ1
          simp (disch := omega) only [b_107_0, q_107_25, b_107_25, q_107_71, b_107_71, q_107_95, b_107_95, q_107_104, b_107_104, ↓w_iconst, ↓w_sipush, ↓w_aload_n_0, ↓w_iload_n_1, ↓w_iload_n_2, ↓w_iload_n_3, ↓w_istore_n_3, ↓w_isub, ↓w_getfield, ↓w_iaload, ↓w_nop, ↓w_goto, ↓w_ifCond_eq, ↓w_ifCond_ne, ↓w_if_icmp_ne, ↓w_if_icmp_ge, ↓w_ireturn0, ↓w_invokevirtual_0, ↓w_invokestatic_3, stw_0, stw_i, stw_l, stw_r, ofK0, ofK1, ofK2, lst1, lst2, lkill, kont_none, kont_some, Int.reduceToNat, List.length_cons, List.length_nil, Nat.reduceAdd, Nat.reduceLeDiff, Nat.zero_le, true_and, and_true, if_true, if_false, ne_eq, Int.reduceEq, Int.reduceNeg, not_false_eq_true, not_true_eq_false, ↓reduceIte, Int.reduceLT, Int.reduceLE, and_self, or_true, true_or, or_false, false_or, false_and, and_false, ah_t_w, ah_m_w, ah_n_w, lst1_0, List.tail_cons, w32_i, zbd, lst2_0, xt_1a hK1, xf_1_11 hK1, xf_1_12 hK1, vv_t hK1 hV, vv_0 hK1 hV, vv_0a hK1 hV, vv_0b hK1 hV, vv_1 hK1 hV, vv_1a hK1 hV, vv_1b hK1 hV, s_t hK1 hS1, s_4 hK1 hS1, s_4a hK1 hS1, s_4b hK1 hS1, c1, c2, e1, e2, k0, k2, eo, p0, p1, g3]
          exact hQ1
      · have w4 : w = 4 := by omega
        subst w4
        simp only [Int.reduceEq, ↓reduceIte] at ezo
        have tS := sz_t hK1 is70
        simp (disch := omega) only [b_107_0, q_107_25, b_107_25, q_107_71, b_107_71, q_107_105, b_107_105, ↓w_iconst, ↓w_sipush, ↓w_aload_n_0, ↓w_iload_n_1, ↓w_iload_n_2, ↓w_iload_n_3, ↓w_istore_n_3, ↓w_pop_i, ↓w_pop_a, ↓w_isub, ↓w_getfield, ↓w_iaload, ↓w_nop, ↓w_goto, ↓w_ifCond_eq, ↓w_ifCond_ne, ↓w_if_icmp_ne, ↓w_if_icmp_ge, ↓w_invokevirtual_0, ↓w_invokevirtual_1, ↓w_invokevirtual_2, ↓w_invokestatic_3, stw_0, stw_i, stw_l, stw_r, ofK0, ofK1, ofK2, lst1, lst2, lkill, kont_none, kont_some, Int.reduceToNat, List.length_cons, List.length_nil, Nat.reduceAdd, Nat.reduceLeDiff, Nat.zero_le, true_and, and_true, if_true, if_false, ne_eq, Int.reduceEq, Int.reduceNeg, not_false_eq_true, not_true_eq_false, ↓reduceIte, Int.reduceLT, Int.reduceLE, and_self, or_true, true_or, or_false, false_or, false_and, and_false, ah_t_w, ah_m_w, ah_n_w, lst1_0, List.tail_cons, w32_i, zbd, lst2_0, xt_1a hK1, xf_1_11 hK1, xf_1_12 hK1, xf_1_13 hK1, vv_t hK1 hV, vv_0 hK1 hV, vv_0a hK1 hV, vv_0b hK1 hV, vv_1 hK1 hV, vv_1a hK1 hV, vv_1b hK1 hV, s_t hK1 hS1, s_4 hK1 hS1, s_4a hK1 hS1, s_4b hK1 hS1, c1, c2, e1, e2, k0, k2, tS]
        refine cpy (d := d + 7) hA1 hF (fun h2 hA2 hS2 hO2 => ?_)
        have hK2 := hA2.1
        have tS2 := sz_t hK2 is70
        have e1' : ah_m h2 (22 + 1) k = q.1 := by rw [hO2.2 _ _ (by unfold Wcp; omega)]; exact e1
        simp (disch := omega) only [b_107_105, ↓w_iconst, ↓w_aload_n_0, ↓w_iload_n_1, ↓w_iload_n_3, ↓w_pop_i, ↓w_pop_a, ↓w_getfield, ↓w_iaload, ↓w_goto, ↓w_ifCond_eq, ↓w_invokevirtual_0, ↓w_invokevirtual_1, ↓w_invokevirtual_2, stw_0, stw_i, stw_l, stw_r, ofK0, ofK1, ofK2, lst1, lst2, lkill, kont_none, kont_some, Int.reduceToNat, List.length_cons, List.length_nil, Nat.reduceAdd, Nat.reduceLeDiff, Nat.zero_le, true_and, and_true, if_true, if_false, ne_eq, Int.reduceEq, Int.reduceNeg, not_false_eq_true, not_true_eq_false, ↓reduceIte, Int.reduceLT, Int.reduceLE, and_self, or_true, true_or, or_false, false_or, false_and, and_false, ah_t_w, ah_m_w, ah_n_w, lst1_0, List.tail_cons, w32_i, zbd, lst2_0, xt_1a hK2, xf_1_11 hK2, xf_1_12 hK2, xf_1_13 hK2, vv_t hK2 hV, vv_0 hK2 hV, vv_0a hK2 hV, vv_0b hK2 hV, s_t hK2 hS2, e1', k0, k2]
        refine c_221 (d := d + 2) hK2 hS2 hX h40 ho.1.1 ho.1.2 ho.2.1 ho.2.2.1.1 ho.2.2.1.2 ho.2.2.2 (fun h3 hK3 hS3 hO3 => ?_)
        have hXd := NX_do hX ho.1.1 ho.1.2 ho.2.2.1.1 ho.2.2.1.2
        have hO3' := Off_tr hO1' (Off_tr (Off_mono Wth_cp hO2) (Off_mono Wth_ss hO3))
        have hQ3 := hQ h3 (XA_th hA h40 hO3' hS3.2.2.2.2.2.2) hO3'
        rw [ezo] at hQ3
        cases hc : zchk T (zdo T nw q.1 q.2) (zdo T nw q.1 q.2 1) with
        | true =>
          rw [hc] at hQ3
          simp (disch := omega) only [b_107_105, q_107_145, b_107_145, ↓w_iconst, ↓w_aload_n_0, ↓w_iload_n_1, ↓w_iload_n_3, ↓w_pop_i, ↓w_pop_a, ↓w_getfield, ↓w_iaload, ↓w_goto, ↓w_ifCond_eq, ↓w_ireturn0, ↓w_invokevirtual_0, ↓w_invokevirtual_1, ↓w_invokevirtual_2, stw_0, stw_i, stw_l, stw_r, ofK0, ofK1, ofK2, lst1, lst2, lkill, kont_none, kont_some, Int.reduceToNat, List.length_cons, List.length_nil, Nat.reduceAdd, Nat.reduceLeDiff, Nat.zero_le, true_and, and_true, if_true, if_false, ne_eq, Int.reduceEq, Int.reduceNeg, not_false_eq_true, not_true_eq_false, ↓reduceIte, Int.reduceLT, Int.reduceLE, and_self, or_true, true_or, or_false, false_or, false_and, and_false, ah_t_w, ah_m_w, ah_n_w, lst1_0, List.tail_cons, w32_i, zbd, lst2_0, xt_1a hK3, xf_1_11 hK3, xf_1_12 hK3, xf_1_13 hK3, s_t hK3 hS3, c_222 hK3 hS3 (NX_N hXd), hc, zb_t]
          exact hQ3
        | false =>
          rw [hc] at hQ3
          simp (disch := omega) only [b_107_105, q_107_144, b_107_144, q_107_145, b_107_145, ↓w_iconst, ↓w_aload_n_0, ↓w_iload_n_1, ↓w_iload_n_3, ↓w_pop_i, ↓w_pop_a, ↓w_getfield, ↓w_iaload, ↓w_nop, ↓w_goto, ↓w_ifCond_eq, ↓w_ireturn0, ↓w_invokevirtual_0, ↓w_invokevirtual_1, ↓w_invokevirtual_2, stw_0, stw_i, stw_l, stw_r, ofK0, ofK1, ofK2, lst1, lst2, lkill, kont_none, kont_some, Int.reduceToNat, List.length_cons, List.length_nil, Nat.reduceAdd, Nat.reduceLeDiff, Nat.zero_le, true_and, and_true, if_true, if_false, ne_eq, Int.reduceEq, Int.reduceNeg, not_false_eq_true, not_true_eq_false, ↓reduceIte, Int.reduceLT, Int.reduceLE, and_self, or_true, true_or, or_false, false_or, false_and, and_false, ah_t_w, ah_m_w, ah_n_w, lst1_0, List.tail_cons, w32_i, zbd, lst2_0, xt_1a hK3, xf_1_11 hK3, xf_1_12 hK3, xf_1_13 hK3, s_t hK3 hS3, c_222 hK3 hS3 (NX_N hXd), hc, zb_f]
          exact hQ3
    · have ez : zopt T nw k w = -1 := by unfold zopt; rw [if_neg gw]
      rw [ez] at hQ1
      have c1 : ∀ {Q : QQ}, wpC (d + 8) 92 [.inl k, .inl 0, .inl ((zall T nw : Int) - 1)] h1 Q ↔ Q (.inl (some (.inl 1))) h1 := by intro Q; rw [c_92, if_pos g]
      have c2 : ∀ {Q : QQ}, wpC (d + 8) 92 [.inl w, .inl 0, .inl 4] h1 Q ↔ Q (.inl (some (.inl 0))) h1 := by intro Q; rw [c_92, if_neg gw]
      simp (disch := omega) only [b_107_0, q_107_23, b_107_23, ↓w_iconst, ↓w_aload_n_0, ↓w_iload_n_1, ↓w_iload_n_2, ↓w_isub, ↓w_nop, ↓w_ifCond_eq, ↓w_ifCond_ne, ↓w_ireturn0, ↓w_invokevirtual_0, ↓w_invokestatic_3, stw_0, stw_i, stw_l, stw_r, ofK0, ofK1, ofK2, lst1, lst2, lkill, kont_none, kont_some, Int.reduceToNat, List.length_cons, List.length_nil, Nat.reduceAdd, Nat.reduceLeDiff, Nat.zero_le, true_and, and_true, if_true, if_false, ne_eq, Int.reduceEq, Int.reduceNeg, not_false_eq_true, not_true_eq_false, ↓reduceIte, Int.reduceLT, Int.reduceLE, and_self, or_true, true_or, or_false, false_or, false_and, and_false, ah_t_w, ah_m_w, ah_n_w, lst1_0, List.tail_cons, w32_i, zbd, lst2_0, xt_1a hK1, c1, c2]
      exact hQ1
  · have ez : zopt T nw k w = -1 := by
      by_cases gw : 0 ≤ w ∧ w ≤ 4
      · rw [ezo gw, zpk_none _ _ _ (by rw [el]; omega)]
      · unfold zopt; rw [if_neg gw]
    rw [ez] at hQ1
    have c1 : ∀ {Q : QQ}, wpC (d + 8) 92 [.inl k, .inl 0, .inl ((zall T nw : Int) - 1)] h1 Q ↔ Q (.inl (some (.inl 0))) h1 := by intro Q; rw [c_92, if_neg g]
    simp (disch := omega) only [b_107_0, q_107_23, b_107_23, ↓w_iconst, ↓w_aload_n_0, ↓w_iload_n_1, ↓w_iload_n_2, ↓w_isub, ↓w_nop, ↓w_ifCond_eq, ↓w_ifCond_ne, ↓w_ireturn0, ↓w_invokevirtual_0, ↓w_invokestatic_3, stw_0, stw_i, stw_l, stw_r, ofK0, ofK1, ofK2, lst1, lst2, lkill, kont_none, kont_some, Int.reduceToNat, List.length_cons, List.length_nil, Nat.reduceAdd, Nat.reduceLeDiff, Nat.zero_le, true_and, and_true, if_true, if_false, ne_eq, Int.reduceEq, Int.reduceNeg, not_false_eq_true, not_true_eq_false, ↓reduceIte, Int.reduceLT, Int.reduceLE, and_self, or_true, true_or, or_false, false_or, false_and, and_false, ah_t_w, ah_m_w, ah_n_w, lst1_0, List.tail_cons, w32_i, zbd, lst2_0, xt_1a hK1, c1]
    exact hQ1
theorem c_109 (hA : XA T nw h) (hF : FV nw) : wpC (d + 2) 109 [.inr (.inr 1), .inl k, .inl w] h Q ↔ Q (.inl (some (.inl (if (0 ≤ k ∧ k < nw 24) ∧ (0 ≤ w ∧ w ≤ 4) then nw (25 + 5 * k + w) else -1)))) h := by
  have hK := hA.1
  have hS := hA.2.1
  have h40 := hF.2.2
  apply CT_iff; apply CT_of; rw [wpC_B]; refine ⟨⟨Nat.zero_lt_succ _, Nat.le_of_ble_eq_true rfl⟩, ?_⟩; simp only [lent]
  by_cases g : 0 ≤ k ∧ k ≤ nw 24 - 1
  · by_cases gw : 0 ≤ w ∧ w ≤ 4
    · rw [if_pos (by omega)]
      have k0 := g.1
      have k1 : k < 40 := by omega
      have pk := hS.2.2.2.2.2.2.1 k k0 k1
      have tk := sz_r hK is25 pk.1 pk.2
      have er := hS.2.2.2.2.2.1 k w k0 (by omega) gw.1 (by omega)
      have w0 := gw.1
      have w1 : w < 5 := by omega
      have c1 : ∀ {Q : QQ}, wpC (d + 1) 92 [.inl k, .inl 0, .inl (nw 24 - 1)] h Q ↔ Q (.inl (some (.inl 1))) h := by intro Q; rw [c_92, if_pos g]
      have c2 : ∀ {Q : QQ}, wpC (d + 1) 92 [.inl w, .inl 0, .inl 4] h Q ↔ Q (.inl (some (.inl 1))) h := by intro Q; rw [c_92, if_pos gw]
      simp (disch := omega) only [q_109_0, b_109_0, q_109_40, b_109_40, q_109_41, b_109_41, ↓w_iconst, ↓w_aload_n_0, ↓w_iload_n_1, ↓w_iload_n_2, ↓w_isub, ↓w_getfield, ↓w_iaload, ↓w_aaload, ↓w_nop, ↓w_goto, ↓w_ifCond_eq, ↓w_ireturn0, ↓w_invokestatic_3, stw_0, stw_i, stw_l, stw_r, ofK0, ofK1, ofK2, lst1, lst2, lkill, kont_none, kont_some, Int.reduceToNat, List.length_cons, List.length_nil, Nat.reduceAdd, Nat.reduceLeDiff, Nat.zero_le, true_and, and_true, if_true, if_false, ne_eq, Int.reduceEq, Int.reduceNeg, not_false_eq_true, not_true_eq_false, ↓reduceIte, Int.reduceLT, Int.reduceLE, and_self, or_true, true_or, or_false, false_or, false_and, and_false, ah_t_w, ah_m_w, ah_n_w, lst1_0, List.tail_cons, w32_i, zbd, lst2_0, xt_1a hK, xf_1_12 hK, s_t hK hS, s_2 hS, s_6 hK hS, s_6a hK hS, s_6b hK hS, c1, c2, k0, k1, tk, er, w0, w1]
    · rw [if_neg (by omega)]
      have c1 : ∀ {Q : QQ}, wpC (d + 1) 92 [.inl k, .inl 0, .inl (nw 24 - 1)] h Q ↔ Q (.inl (some (.inl 1))) h := by intro Q; rw [c_92, if_pos g]
      have c2 : ∀ {Q : QQ}, wpC (d + 1) 92 [.inl w, .inl 0, .inl 4] h Q ↔ Q (.inl (some (.inl 0))) h := by intro Q; rw [c_92, if_neg gw]
      simp (disch := omega) only [q_109_0, b_109_0, q_109_40, b_109_40, q_109_41, b_109_41, ↓w_iconst, ↓w_aload_n_0, ↓w_iload_n_1, ↓w_iload_n_2, ↓w_isub, ↓w_getfield, ↓w_iaload, ↓w_aaload, ↓w_nop, ↓w_goto, ↓w_ifCond_eq, ↓w_ireturn0, ↓w_invokestatic_3, stw_0, stw_i, stw_l, stw_r, ofK0, ofK1, ofK2, lst1, lst2, lkill, kont_none, kont_some, Int.reduceToNat, List.length_cons, List.length_nil, Nat.reduceAdd, Nat.reduceLeDiff, Nat.zero_le, true_and, and_true, if_true, if_false, ne_eq, Int.reduceEq, Int.reduceNeg, not_false_eq_true, not_true_eq_false, ↓reduceIte, Int.reduceLT, Int.reduceLE, and_self, or_true, true_or, or_false, false_or, false_and, and_false, ah_t_w, ah_m_w, ah_n_w, lst1_0, List.tail_cons, w32_i, zbd, lst2_0, xt_1a hK, xf_1_12 hK, s_t hK hS, s_2 hS, s_6 hK hS, s_6a hK hS, s_6b hK hS, c1, c2]
  · rw [if_neg (by omega)]
    have c1 : ∀ {Q : QQ}, wpC (d + 1) 92 [.inl k, .inl 0, .inl (nw 24 - 1)] h Q ↔ Q (.inl (some (.inl 0))) h := by intro Q; rw [c_92, if_neg g]
    simp (disch := omega) only [q_109_0, b_109_0, q_109_40, b_109_40, q_109_41, b_109_41, ↓w_iconst, ↓w_aload_n_0, ↓w_iload_n_1, ↓w_iload_n_2, ↓w_isub, ↓w_getfield, ↓w_iaload, ↓w_aaload, ↓w_nop, ↓w_goto, ↓w_ifCond_eq, ↓w_ireturn0, ↓w_invokestatic_3, stw_0, stw_i, stw_l, stw_r, ofK0, ofK1, ofK2, lst1, lst2, lkill, kont_none, kont_some, Int.reduceToNat, List.length_cons, List.length_nil, Nat.reduceAdd, Nat.reduceLeDiff, Nat.zero_le, true_and, and_true, if_true, if_false, ne_eq, Int.reduceEq, Int.reduceNeg, not_false_eq_true, not_true_eq_false, ↓reduceIte, Int.reduceLT, Int.reduceLE, and_self, or_true, true_or, or_false, false_or, false_and, and_false, ah_t_w, ah_m_w, ah_n_w, lst1_0, List.tail_cons, w32_i, zbd, lst2_0, xt_1a hK, xf_1_12 hK, s_t hK hS, s_2 hS, s_6 hK hS, s_6a hK hS, s_6b hK hS, c1]
theorem zbal_bx (hT : TV T) : -1000 ≤ zbal T nw w ∧ zbal T nw w ≤ 1000 := by
  have h := zval_b (T := T) hT
  have n8 := hT.2.1
  have : ∀ (j : Nat) (m a : Int), 0 ≤ m → m + j ≤ 8 → -100 * m ≤ a → a ≤ 100 * m → -1000 ≤ zbl T nw w j m a ∧ zbl T nw w j m a ≤ 1000 := by
    intro j
    induction j with
    | zero => intro m a m0 m1 a0 a1; simp only [zbl]; omega
    | succ j ih =>
      intro m a m0 m1 a0 a1
      have hk := (hT.2.2.2.2.2.1 m m0 (by omega)).1
      have hw := (hT.2.2.2.2.2.2.1 _ hk.1 hk.2).2.2.1
      have hw' : 0 ≤ zwo T m ∧ zwo T m ≤ 99 := hw
      simp only [zbl]
      refine ih (m + 1) _ (by omega) (by omega) ?_ ?_ <;> split <;> (try split) <;> omega
  exact this _ _ _ (by omega) (by unfold zn; omega) (by omega) (by omega)
theorem c_110 (hA : XA T nw h) (hX : NX T nw) : wpC (d + 7) 110 [.inr (.inr 1), .inl w] h Q ↔ Q (.inl (some (.inr (.inl (if 0 < T 1074 4 ∧ (0 ≤ w ∧ w ≤ 1) then zbal T nw w else -1000000000000000))))) h := by
  have hK := hA.1
  have hS := hA.2.1
  have hN := NX_N hX
  apply CT_iff; apply CT_of; rw [wpC_B]; refine ⟨⟨Nat.zero_lt_succ _, Nat.le_of_ble_eq_true rfl⟩, ?_⟩; simp only [lent]
  by_cases g : 0 < T 1074 4
  · by_cases gw : 0 ≤ w ∧ w ≤ 1
    · rw [if_pos ⟨g, gw⟩]
      simp (disch := omega) only [q_110_0, b_110_0, q_110_28, b_110_28, q_110_31, b_110_31, ↓w_iconst, ↓w_ldc2_w, ↓w_aload_n_0, ↓w_iload_n_1, ↓w_i2l, ↓w_getfield, ↓w_nop, ↓w_goto, ↓w_ifCond_eq, ↓w_lreturn, ↓w_invokevirtual_0, ↓w_invokevirtual_1, ↓w_invokestatic_3, stw_0, stw_i, stw_l, stw_r, ofK0, ofK1, ofK2, lst1, lst2, lkill, kont_none, kont_some, Int.reduceToNat, List.length_cons, List.length_nil, Nat.reduceAdd, Nat.reduceLeDiff, Nat.zero_le, true_and, and_true, if_true, if_false, ne_eq, Int.reduceEq, Int.reduceNeg, not_false_eq_true, not_true_eq_false, ↓reduceIte, Int.reduceLT, Int.reduceLE, and_self, or_true, true_or, or_false, false_or, false_and, and_false, ah_t_w, ah_m_w, ah_n_w, lst1_0, List.tail_cons, w32_i, zbd, lst2_0, xt_1a hK, xf_1_12 hK, s_t hK hS, c_98 hK, g, c_92, eq_true gw, c_223 hK hS hN]
    · rw [if_neg (fun q => gw q.2)]
      simp (disch := omega) only [q_110_0, b_110_0, q_110_28, b_110_28, q_110_31, b_110_31, ↓w_iconst, ↓w_ldc2_w, ↓w_aload_n_0, ↓w_iload_n_1, ↓w_i2l, ↓w_getfield, ↓w_nop, ↓w_goto, ↓w_ifCond_eq, ↓w_lreturn, ↓w_invokevirtual_0, ↓w_invokevirtual_1, ↓w_invokestatic_3, stw_0, stw_i, stw_l, stw_r, ofK0, ofK1, ofK2, lst1, lst2, lkill, kont_none, kont_some, Int.reduceToNat, List.length_cons, List.length_nil, Nat.reduceAdd, Nat.reduceLeDiff, Nat.zero_le, true_and, and_true, if_true, if_false, ne_eq, Int.reduceEq, Int.reduceNeg, not_false_eq_true, not_true_eq_false, ↓reduceIte, Int.reduceLT, Int.reduceLE, and_self, or_true, true_or, or_false, false_or, false_and, and_false, ah_t_w, ah_m_w, ah_n_w, lst1_0, List.tail_cons, w32_i, zbd, lst2_0, xt_1a hK, xf_1_12 hK, s_t hK hS, c_98 hK, g, c_92, eq_false gw]
  · rw [if_neg (fun q => g q.1)]
    simp (disch := omega) only [q_110_0, b_110_0, q_110_28, b_110_28, q_110_31, b_110_31, ↓w_iconst, ↓w_ldc2_w, ↓w_aload_n_0, ↓w_iload_n_1, ↓w_i2l, ↓w_getfield, ↓w_nop, ↓w_goto, ↓w_ifCond_eq, ↓w_lreturn, ↓w_invokevirtual_0, ↓w_invokevirtual_1, ↓w_invokestatic_3, stw_0, stw_i, stw_l, stw_r, ofK0, ofK1, ofK2, lst1, lst2, lkill, kont_none, kont_some, Int.reduceToNat, List.length_cons, List.length_nil, Nat.reduceAdd, Nat.reduceLeDiff, Nat.zero_le, true_and, and_true, if_true, if_false, ne_eq, Int.reduceEq, Int.reduceNeg, not_false_eq_true, not_true_eq_false, ↓reduceIte, Int.reduceLT, Int.reduceLE, and_self, or_true, true_or, or_false, false_or, false_and, and_false, ah_t_w, ah_m_w, ah_n_w, lst1_0, List.tail_cons, w32_i, zbd, lst2_0, xt_1a hK, xf_1_12 hK, s_t hK hS, c_98 hK, g]
theorem c_111 (hA : XA T nw h) (hX : NX T nw) (hF : FV nw) (hQ : ∀ h', XA T nw h' → Off Wth h h' → Q (.inl (some (.inr (.inl (if 0 < T 1074 4 ∧ (0 ≤ w ∧ w ≤ 3) then zval T w.toNat nw else -1000000000000000))))) h') : wpC (d + 16) 111 [.inr (.inr 1), .inl w] h Q := by
  have hK := hA.1
  have hS := hA.2.1
  have h40 := hF.2.2.2
  rw [wpC_B]; refine ⟨⟨Nat.zero_lt_succ _, Nat.le_of_ble_eq_true rfl⟩, ?_⟩; simp only [lent]
  by_cases g : 0 < T 1074 4
  · by_cases gw : 0 ≤ w ∧ w ≤ 3
    · rw [if_pos ⟨g, gw⟩] at hQ
      have tS := sz_t hK is70
      simp (disch := omega) only [q_111_0, b_111_0, ↓w_iconst, ↓w_aload_n_0, ↓w_iload_n_1, ↓w_i2l, ↓w_getfield, ↓w_goto, ↓w_ifCond_eq, ↓w_invokevirtual_0, ↓w_invokevirtual_1, ↓w_invokestatic_3, stw_0, stw_i, stw_l, stw_r, ofK0, ofK1, ofK2, lst1, lst2, lkill, kont_none, kont_some, Int.reduceToNat, List.length_cons, List.length_nil, Nat.reduceAdd, Nat.reduceLeDiff, Nat.zero_le, true_and, and_true, if_true, if_false, ne_eq, Int.reduceEq, Int.reduceNeg, not_false_eq_true, not_true_eq_false, ↓reduceIte, Int.reduceLT, Int.reduceLE, and_self, or_true, true_or, or_false, false_or, false_and, and_false, ah_t_w, ah_m_w, ah_n_w, lst1_0, List.tail_cons, w32_i, zbd, lst2_0, xt_1a hK, xf_1_12 hK, xf_1_13 hK, s_t hK hS, c_98 hK, g, c_92, eq_true gw, tS]
      refine cpy (d := d + 14) hA hF (fun h2 hA2 hS2 hO2 => ?_)
      have hK2 := hA2.1
      have tS2 := sz_t hK2 is70
      simp (disch := omega) only [b_111_0, ↓w_iconst, ↓w_aload_n_0, ↓w_iload_n_1, ↓w_i2l, ↓w_getfield, ↓w_goto, ↓w_ifCond_eq, ↓w_invokevirtual_0, ↓w_invokevirtual_1, ↓w_invokestatic_3, stw_0, stw_i, stw_l, stw_r, ofK0, ofK1, ofK2, lst1, lst2, lkill, kont_none, kont_some, Int.reduceToNat, List.length_cons, List.length_nil, Nat.reduceAdd, Nat.reduceLeDiff, Nat.zero_le, true_and, and_true, if_true, if_false, ne_eq, Int.reduceEq, Int.reduceNeg, not_false_eq_true, not_true_eq_false, ↓reduceIte, Int.reduceLT, Int.reduceLE, and_self, or_true, true_or, or_false, false_or, false_and, and_false, ah_t_w, ah_m_w, ah_n_w, lst1_0, List.tail_cons, w32_i, zbd, lst2_0, tS2]
      obtain ⟨u, hu⟩ : ∃ u : Nat, w = u := ⟨w.toNat, by omega⟩
      subst hu
      rw [Int.toNat_natCast] at hQ
      have hu3 : u ≤ 3 := by omega
      refine wpC_deep (VAL_all u hu3 d nw h2 _ hK2 hS2 hX h40 (fun h3 hK3 hS3 hO3 => ?_)) (by omega)
      have hO3' : Off Wth h h3 := Off_tr (Off_mono Wth_cp hO2) (Off_mono (fun r i w => Wth_be r i (Or.inl (Wva_le (by omega) r i w))) hO3)
      simp (disch := omega) only [b_111_0, q_111_38, b_111_38, ↓w_iconst, ↓w_aload_n_0, ↓w_iload_n_1, ↓w_i2l, ↓w_getfield, ↓w_goto, ↓w_ifCond_eq, ↓w_lreturn, ↓w_invokevirtual_0, ↓w_invokevirtual_1, ↓w_invokestatic_3, stw_0, stw_i, stw_l, stw_r, ofK0, ofK1, ofK2, lst1, lst2, lkill, kont_none, kont_some, Int.reduceToNat, List.length_cons, List.length_nil, Nat.reduceAdd, Nat.reduceLeDiff, Nat.zero_le, true_and, and_true, if_true, if_false, ne_eq, Int.reduceEq, Int.reduceNeg, not_false_eq_true, not_true_eq_false, ↓reduceIte, Int.reduceLT, Int.reduceLE, and_self, or_true, true_or, or_false, false_or, false_and, and_false, ah_t_w, ah_m_w, ah_n_w, lst1_0, List.tail_cons, w32_i, zbd, lst2_0]
      exact hQ h3 (XA_th hA h40 hO3' hS3.2.2.2.2.2.2) hO3'
    · rw [if_neg (fun q => gw q.2)] at hQ
      simp (disch := omega) only [q_111_0, b_111_0, q_111_35, b_111_35, q_111_38, b_111_38, ↓w_iconst, ↓w_ldc2_w, ↓w_aload_n_0, ↓w_iload_n_1, ↓w_i2l, ↓w_getfield, ↓w_nop, ↓w_goto, ↓w_ifCond_eq, ↓w_lreturn, ↓w_invokevirtual_0, ↓w_invokevirtual_1, ↓w_invokestatic_3, stw_0, stw_i, stw_l, stw_r, ofK0, ofK1, ofK2, lst1, lst2, lkill, kont_none, kont_some, Int.reduceToNat, List.length_cons, List.length_nil, Nat.reduceAdd, Nat.reduceLeDiff, Nat.zero_le, true_and, and_true, if_true, if_false, ne_eq, Int.reduceEq, Int.reduceNeg, not_false_eq_true, not_true_eq_false, ↓reduceIte, Int.reduceLT, Int.reduceLE, and_self, or_true, true_or, or_false, false_or, false_and, and_false, ah_t_w, ah_m_w, ah_n_w, lst1_0, List.tail_cons, w32_i, zbd, lst2_0, xt_1a hK, xf_1_12 hK, xf_1_13 hK, s_t hK hS, c_98 hK, g, c_92, eq_false gw]
      exact hQ h hA Off_rfl
  · rw [if_neg (fun q => g q.1)] at hQ
    simp (disch := omega) only [q_111_0, b_111_0, q_111_35, b_111_35, q_111_38, b_111_38, ↓w_iconst, ↓w_ldc2_w, ↓w_aload_n_0, ↓w_iload_n_1, ↓w_i2l, ↓w_getfield, ↓w_nop, ↓w_goto, ↓w_ifCond_eq, ↓w_lreturn, ↓w_invokevirtual_0, ↓w_invokevirtual_1, ↓w_invokestatic_3, stw_0, stw_i, stw_l, stw_r, ofK0, ofK1, ofK2, lst1, lst2, lkill, kont_none, kont_some, Int.reduceToNat, List.length_cons, List.length_nil, Nat.reduceAdd, Nat.reduceLeDiff, Nat.zero_le, true_and, and_true, if_true, if_false, ne_eq, Int.reduceEq, Int.reduceNeg, not_false_eq_true, not_true_eq_false, ↓reduceIte, Int.reduceLT, Int.reduceLE, and_self, or_true, true_or, or_false, false_or, false_and, and_false, ah_t_w, ah_m_w, ah_n_w, lst1_0, List.tail_cons, w32_i, zbd, lst2_0, xt_1a hK, xf_1_12 hK, xf_1_13 hK, s_t hK hS, c_98 hK, g]
    exact hQ h hA Off_rfl
theorem c_112 (hA : XA T nw h) (hX : NX T nw) (hF : FV nw) (hQ : ∀ h', XA T nw h' → Off Wth h h' → Q (.inl (some (.inl (if 0 < T 1074 4 ∧ (1 ≤ w ∧ w ≤ 3) then (zbe T nw (w - 1).toNat 0 0).1 else -1)))) h') : wpC (d + 16) 112 [.inr (.inr 1), .inl w] h Q := by
  have hK := hA.1
  have hS := hA.2.1
  have h40 := hF.2.2.2
  rw [wpC_B]; refine ⟨⟨Nat.zero_lt_succ _, Nat.le_of_ble_eq_true rfl⟩, ?_⟩; simp only [lent]
  by_cases g : 0 < T 1074 4
  · by_cases gw : 1 ≤ w ∧ w ≤ 3
    · rw [if_pos ⟨g, gw⟩] at hQ
      have tS := sz_t hK is70
      simp (disch := omega) only [q_112_0, b_112_0, ↓w_iconst, ↓w_aload_n_0, ↓w_iload_n_1, ↓w_getfield, ↓w_goto, ↓w_ifCond_eq, ↓w_invokevirtual_0, ↓w_invokevirtual_1, ↓w_invokestatic_3, stw_0, stw_i, stw_l, stw_r, ofK0, ofK1, ofK2, lst1, lst2, lkill, kont_none, kont_some, Int.reduceToNat, List.length_cons, List.length_nil, Nat.reduceAdd, Nat.reduceLeDiff, Nat.zero_le, true_and, and_true, if_true, if_false, ne_eq, Int.reduceEq, Int.reduceNeg, not_false_eq_true, not_true_eq_false, ↓reduceIte, Int.reduceLT, Int.reduceLE, and_self, or_true, true_or, or_false, false_or, false_and, and_false, ah_t_w, ah_m_w, ah_n_w, lst1_0, List.tail_cons, w32_i, zbd, lst2_0, xt_1a hK, xf_1_12 hK, xf_1_13 hK, s_t hK hS, c_98 hK, g, c_92, eq_true gw, tS]
      refine cpy (d := d + 14) hA hF (fun h2 hA2 hS2 hO2 => ?_)
      have hK2 := hA2.1
      have tS2 := sz_t hK2 is70
      simp (disch := omega) only [b_112_0, ↓w_iconst, ↓w_aload_n_0, ↓w_iload_n_1, ↓w_getfield, ↓w_goto, ↓w_ifCond_eq, ↓w_invokevirtual_0, ↓w_invokevirtual_1, ↓w_invokestatic_3, stw_0, stw_i, stw_l, stw_r, ofK0, ofK1, ofK2, lst1, lst2, lkill, kont_none, kont_some, Int.reduceToNat, List.length_cons, List.length_nil, Nat.reduceAdd, Nat.reduceLeDiff, Nat.zero_le, true_and, and_true, if_true, if_false, ne_eq, Int.reduceEq, Int.reduceNeg, not_false_eq_true, not_true_eq_false, ↓reduceIte, Int.reduceLT, Int.reduceLE, and_self, or_true, true_or, or_false, false_or, false_and, and_false, ah_t_w, ah_m_w, ah_n_w, lst1_0, List.tail_cons, w32_i, zbd, lst2_0, tS2]
      obtain ⟨u, hu⟩ : ∃ u : Nat, w = u + 1 := ⟨(w - 1).toNat, by omega⟩
      subst hu
      rw [show ((u : Int) + 1 - 1).toNat = u by omega] at hQ
      refine wpC_deep (c_227 (d := d) (j := u) (by omega) hK2 hS2 hX h40 (fun h3 hK3 hS3 hO3 => ?_)) (by omega)
      have hO3' : Off Wth h h3 := Off_tr (Off_mono Wth_cp hO2) (Off_mono (fun r i w => Wth_be r i (Wbe_le (by omega) r i w)) hO3)
      simp (disch := omega) only [b_112_0, q_112_35, b_112_35, ↓w_iconst, ↓w_aload_n_0, ↓w_iload_n_1, ↓w_getfield, ↓w_goto, ↓w_ifCond_eq, ↓w_ireturn0, ↓w_invokevirtual_0, ↓w_invokevirtual_1, ↓w_invokestatic_3, stw_0, stw_i, stw_l, stw_r, ofK0, ofK1, ofK2, lst1, lst2, lkill, kont_none, kont_some, Int.reduceToNat, List.length_cons, List.length_nil, Nat.reduceAdd, Nat.reduceLeDiff, Nat.zero_le, true_and, and_true, if_true, if_false, ne_eq, Int.reduceEq, Int.reduceNeg, not_false_eq_true, not_true_eq_false, ↓reduceIte, Int.reduceLT, Int.reduceLE, and_self, or_true, true_or, or_false, false_or, false_and, and_false, ah_t_w, ah_m_w, ah_n_w, lst1_0, List.tail_cons, w32_i, zbd, lst2_0]
      exact hQ h3 (XA_th hA h40 hO3' hS3.2.2.2.2.2.2) hO3'
    · rw [if_neg (fun q => gw q.2)] at hQ
      simp (disch := omega) only [q_112_0, b_112_0, q_112_34, b_112_34, q_112_35, b_112_35, ↓w_iconst, ↓w_aload_n_0, ↓w_iload_n_1, ↓w_getfield, ↓w_nop, ↓w_goto, ↓w_ifCond_eq, ↓w_ireturn0, ↓w_invokevirtual_0, ↓w_invokevirtual_1, ↓w_invokestatic_3, stw_0, stw_i, stw_l, stw_r, ofK0, ofK1, ofK2, lst1, lst2, lkill, kont_none, kont_some, Int.reduceToNat, List.length_cons, List.length_nil, Nat.reduceAdd, Nat.reduceLeDiff, Nat.zero_le, true_and, and_true, if_true, if_false, ne_eq, Int.reduceEq, Int.reduceNeg, not_false_eq_true, not_true_eq_false, ↓reduceIte, Int.reduceLT, Int.reduceLE, and_self, or_true, true_or, or_false, false_or, false_and, and_false, ah_t_w, ah_m_w, ah_n_w, lst1_0, List.tail_cons, w32_i, zbd, lst2_0, xt_1a hK, xf_1_12 hK, xf_1_13 hK, s_t hK hS, c_98 hK, g, c_92, eq_false gw]
      exact hQ h hA Off_rfl
  · rw [if_neg (fun q => g q.1)] at hQ
    simp (disch := omega) only [q_112_0, b_112_0, q_112_34, b_112_34, q_112_35, b_112_35, ↓w_iconst, ↓w_aload_n_0, ↓w_iload_n_1, ↓w_getfield, ↓w_nop, ↓w_goto, ↓w_ifCond_eq, ↓w_ireturn0, ↓w_invokevirtual_0, ↓w_invokevirtual_1, ↓w_invokestatic_3, stw_0, stw_i, stw_l, stw_r, ofK0, ofK1, ofK2, lst1, lst2, lkill, kont_none, kont_some, Int.reduceToNat, List.length_cons, List.length_nil, Nat.reduceAdd, Nat.reduceLeDiff, Nat.zero_le, true_and, and_true, if_true, if_false, ne_eq, Int.reduceEq, Int.reduceNeg, not_false_eq_true, not_true_eq_false, ↓reduceIte, Int.reduceLT, Int.reduceLE, and_self, or_true, true_or, or_false, false_or, false_and, and_false, ah_t_w, ah_m_w, ah_n_w, lst1_0, List.tail_cons, w32_i, zbd, lst2_0, xt_1a hK, xf_1_12 hK, xf_1_13 hK, s_t hK hS, c_98 hK, g]
    exact hQ h hA Off_rfl
theorem c_117 (hA : XA T nw h) (hF : FV nw) (hn : -2147483648 ≤ n ∧ n < 2147483648) (ha : 0 ≤ a) (hb : b ≤ 1000) : wpC (d + 2) 117 [.inr (.inr 1), .inl n, .inl a, .inl b] h Q ↔ Q (.inl (some (.inl (if 0 < T 1074 4 ∧ (a ≤ n ∧ n ≤ b) ∧ nw 0 + n ≤ 999 then 1 else 0)))) h := by
  have hK := hA.1
  have hS := hA.2.1
  have d0 := hF.1
  apply CT_iff; apply CT_of; rw [wpC_B]; refine ⟨⟨Nat.zero_lt_succ _, Nat.le_of_ble_eq_true rfl⟩, ?_⟩; simp only [lent]
  by_cases g : 0 < T 1074 4
  · by_cases gw : a ≤ n ∧ n ≤ b
    · by_cases g3 : nw 0 + n ≤ 999
      · rw [if_pos ⟨g, gw, g3⟩]
        simp (disch := omega) only [q_117_0, b_117_0, q_117_35, b_117_35, q_117_36, b_117_36, ↓w_iconst, ↓w_sipush, ↓w_aload_n_0, ↓w_iload_n_1, ↓w_iload_n_2, ↓w_iload_n_3, ↓w_iadd, ↓w_getfield, ↓w_nop, ↓w_goto, ↓w_ifCond_eq, ↓w_if_icmp_gt, ↓w_ireturn1, ↓w_invokevirtual_0, ↓w_invokestatic_3, stw_0, stw_i, stw_l, stw_r, ofK0, ofK1, ofK2, lst1, lst2, lkill, kont_none, kont_some, Int.reduceToNat, List.length_cons, List.length_nil, Nat.reduceAdd, Nat.reduceLeDiff, Nat.zero_le, true_and, and_true, if_true, if_false, ne_eq, Int.reduceEq, Int.reduceNeg, not_false_eq_true, not_true_eq_false, ↓reduceIte, Int.reduceLT, Int.reduceLE, and_self, or_true, true_or, or_false, false_or, false_and, and_false, ah_t_w, ah_m_w, ah_n_w, lst1_0, List.tail_cons, w32_i, zbd, lst2_0, xt_1a hK, xf_1_12 hK, s_t hK hS, s_0 hS, c_98 hK, g, c_92, eq_true gw, show ¬ 999 < nw 0 + n by omega]
      · rw [if_neg (fun q => g3 q.2.2)]
        simp (disch := omega) only [q_117_0, b_117_0, q_117_35, b_117_35, q_117_36, b_117_36, ↓w_iconst, ↓w_sipush, ↓w_aload_n_0, ↓w_iload_n_1, ↓w_iload_n_2, ↓w_iload_n_3, ↓w_iadd, ↓w_getfield, ↓w_nop, ↓w_goto, ↓w_ifCond_eq, ↓w_if_icmp_gt, ↓w_ireturn1, ↓w_invokevirtual_0, ↓w_invokestatic_3, stw_0, stw_i, stw_l, stw_r, ofK0, ofK1, ofK2, lst1, lst2, lkill, kont_none, kont_some, Int.reduceToNat, List.length_cons, List.length_nil, Nat.reduceAdd, Nat.reduceLeDiff, Nat.zero_le, true_and, and_true, if_true, if_false, ne_eq, Int.reduceEq, Int.reduceNeg, not_false_eq_true, not_true_eq_false, ↓reduceIte, Int.reduceLT, Int.reduceLE, and_self, or_true, true_or, or_false, false_or, false_and, and_false, ah_t_w, ah_m_w, ah_n_w, lst1_0, List.tail_cons, w32_i, zbd, lst2_0, xt_1a hK, xf_1_12 hK, s_t hK hS, s_0 hS, c_98 hK, g, c_92, eq_true gw, show 999 < nw 0 + n by omega]
    · rw [if_neg (fun q => gw q.2.1)]
      simp (disch := omega) only [q_117_0, b_117_0, q_117_35, b_117_35, q_117_36, b_117_36, ↓w_iconst, ↓w_sipush, ↓w_aload_n_0, ↓w_iload_n_1, ↓w_iload_n_2, ↓w_iload_n_3, ↓w_iadd, ↓w_getfield, ↓w_nop, ↓w_goto, ↓w_ifCond_eq, ↓w_if_icmp_gt, ↓w_ireturn1, ↓w_invokevirtual_0, ↓w_invokestatic_3, stw_0, stw_i, stw_l, stw_r, ofK0, ofK1, ofK2, lst1, lst2, lkill, kont_none, kont_some, Int.reduceToNat, List.length_cons, List.length_nil, Nat.reduceAdd, Nat.reduceLeDiff, Nat.zero_le, true_and, and_true, if_true, if_false, ne_eq, Int.reduceEq, Int.reduceNeg, not_false_eq_true, not_true_eq_false, ↓reduceIte, Int.reduceLT, Int.reduceLE, and_self, or_true, true_or, or_false, false_or, false_and, and_false, ah_t_w, ah_m_w, ah_n_w, lst1_0, List.tail_cons, w32_i, zbd, lst2_0, xt_1a hK, xf_1_12 hK, s_t hK hS, s_0 hS, c_98 hK, g, c_92, eq_false gw]
  · rw [if_neg (fun q => g q.1)]
    simp (disch := omega) only [q_117_0, b_117_0, q_117_35, b_117_35, q_117_36, b_117_36, ↓w_iconst, ↓w_sipush, ↓w_aload_n_0, ↓w_iload_n_1, ↓w_iload_n_2, ↓w_iload_n_3, ↓w_iadd, ↓w_getfield, ↓w_nop, ↓w_goto, ↓w_ifCond_eq, ↓w_if_icmp_gt, ↓w_ireturn1, ↓w_invokevirtual_0, ↓w_invokestatic_3, stw_0, stw_i, stw_l, stw_r, ofK0, ofK1, ofK2, lst1, lst2, lkill, kont_none, kont_some, Int.reduceToNat, List.length_cons, List.length_nil, Nat.reduceAdd, Nat.reduceLeDiff, Nat.zero_le, true_and, and_true, if_true, if_false, ne_eq, Int.reduceEq, Int.reduceNeg, not_false_eq_true, not_true_eq_false, ↓reduceIte, Int.reduceLT, Int.reduceLE, and_self, or_true, true_or, or_false, false_or, false_and, and_false, ah_t_w, ah_m_w, ah_n_w, lst1_0, List.tail_cons, w32_i, zbd, lst2_0, xt_1a hK, xf_1_12 hK, s_t hK hS, s_0 hS, c_98 hK, g]
theorem c_140 (hK : XG T h) : wpC (d + 2) 140 [.inr (.inr 1), .inl w] h Q ↔ if w < 0 then Q (.inl (some (.inl 0))) (ah_w h 17 5 (w32 (ah_m h 17 5 + 1))) else Q (.inl (some (.inl 1))) (ah_w h 1 21 w) := by
  by_cases e : w < 0
  · rw [if_pos e]
    apply CT_iff; apply CT_of; rw [wpC_B]; refine ⟨⟨Nat.zero_lt_succ _, Nat.le_of_ble_eq_true rfl⟩, ?_⟩; simp only [lent]
    simp (disch := omega) only [q_140_0, b_140_0, q_140_16, b_140_16, q_140_17, b_140_17, q_140_18, b_140_18, ↓w_iconst, ↓w_aload_n_0, ↓w_iload_n_1, ↓w_i2l, ↓w_putfield_1, ↓w_nop, ↓w_goto, ↓w_ifCond_lt, ↓w_ifCond_ge, ↓w_ireturn1, ↓w_invokevirtual_1, stw_0, stw_i, stw_l, stw_r, ofK0, ofK1, ofK2, lst1, lst2, lkill, kont_none, kont_some, Int.reduceToNat, List.length_cons, List.length_nil, Nat.reduceAdd, Nat.reduceLeDiff, Nat.zero_le, true_and, and_true, if_true, if_false, ne_eq, Int.reduceEq, Int.reduceNeg, not_false_eq_true, not_true_eq_false, ↓reduceIte, Int.reduceLT, Int.reduceLE, and_self, or_true, true_or, or_false, false_or, false_and, and_false, ah_t_w, ah_m_w, ah_n_w, lst1_0, List.tail_cons, w32_i, zbd, lst2_0, xt_1a hK, e, show ¬ 0 ≤ w by omega, c_85 hK]
  · rw [if_neg e]
    apply CT_iff; apply CT_of; rw [wpC_B]; refine ⟨⟨Nat.zero_lt_succ _, Nat.le_of_ble_eq_true rfl⟩, ?_⟩; simp only [lent]
    simp (disch := omega) only [q_140_0, b_140_0, q_140_16, b_140_16, q_140_17, b_140_17, q_140_18, b_140_18, ↓w_iconst, ↓w_aload_n_0, ↓w_iload_n_1, ↓w_i2l, ↓w_putfield_1, ↓w_nop, ↓w_goto, ↓w_ifCond_lt, ↓w_ifCond_ge, ↓w_ireturn1, ↓w_invokevirtual_1, stw_0, stw_i, stw_l, stw_r, ofK0, ofK1, ofK2, lst1, lst2, lkill, kont_none, kont_some, Int.reduceToNat, List.length_cons, List.length_nil, Nat.reduceAdd, Nat.reduceLeDiff, Nat.zero_le, true_and, and_true, if_true, if_false, ne_eq, Int.reduceEq, Int.reduceNeg, not_false_eq_true, not_true_eq_false, ↓reduceIte, Int.reduceLT, Int.reduceLE, and_self, or_true, true_or, or_false, false_or, false_and, and_false, ah_t_w, ah_m_w, ah_n_w, lst1_0, List.tail_cons, w32_i, zbd, lst2_0, xt_1a hK, e, show 0 ≤ w by omega]
theorem c_145 (hK : XG T h) (hb : ah_m h 1 24 ≤ 32) : wpC (d + 1) 145 [.inr (.inr 1), .inl w] h Q ↔ Q (.inl (some (.inl (if 0 ≤ w ∧ w < ah_m h 1 24 then ah_m h 1035 w % 256 else -1)))) h := by
  apply CT_iff; apply CT_of; rw [wpC_B]; refine ⟨⟨Nat.zero_lt_succ _, Nat.le_of_ble_eq_true rfl⟩, ?_⟩; simp only [lent]
  by_cases g : w < 0
  · rw [if_neg (by omega)]
    simp (disch := omega) only [q_145_0, b_145_0, q_145_12, b_145_12, q_145_16, b_145_16, q_145_26, b_145_26, ↓w_iconst, ↓w_sipush, ↓w_aload_n_0, ↓w_iload_n_1, ↓w_iand, ↓w_getfield, ↓w_baload, ↓w_nop, ↓w_goto, ↓w_ifCond_lt, ↓w_if_icmp_lt, ↓w_ireturn0, stw_0, stw_i, stw_l, stw_r, ofK0, ofK1, ofK2, lst1, lst2, lkill, kont_none, kont_some, Int.reduceToNat, List.length_cons, List.length_nil, Nat.reduceAdd, Nat.reduceLeDiff, Nat.zero_le, true_and, and_true, if_true, if_false, ne_eq, Int.reduceEq, Int.reduceNeg, not_false_eq_true, not_true_eq_false, ↓reduceIte, Int.reduceLT, Int.reduceLE, and_self, or_true, true_or, or_false, false_or, false_and, and_false, ah_t_w, ah_m_w, ah_n_w, lst1_0, List.tail_cons, w32_i, zbd, lst2_0, xt_1a hK, xf_1_23 hK, xt_1035a hK, xt_1035b hK, g]
  · by_cases g2 : w < ah_m h 1 24
    · rw [if_pos (by omega)]
      have w0 : 0 ≤ w := by omega
      have w1 : w < 32 := by omega
      simp (disch := omega) only [q_145_0, b_145_0, q_145_12, b_145_12, q_145_16, b_145_16, q_145_26, b_145_26, ↓w_iconst, ↓w_sipush, ↓w_aload_n_0, ↓w_iload_n_1, ↓w_iand, ↓w_getfield, ↓w_baload, ↓w_nop, ↓w_goto, ↓w_ifCond_lt, ↓w_if_icmp_lt, ↓w_ireturn0, stw_0, stw_i, stw_l, stw_r, ofK0, ofK1, ofK2, lst1, lst2, lkill, kont_none, kont_some, Int.reduceToNat, List.length_cons, List.length_nil, Nat.reduceAdd, Nat.reduceLeDiff, Nat.zero_le, true_and, and_true, if_true, if_false, ne_eq, Int.reduceEq, Int.reduceNeg, not_false_eq_true, not_true_eq_false, ↓reduceIte, Int.reduceLT, Int.reduceLE, and_self, or_true, true_or, or_false, false_or, false_and, and_false, ah_t_w, ah_m_w, ah_n_w, lst1_0, List.tail_cons, w32_i, zbd, lst2_0, xt_1a hK, xf_1_23 hK, xt_1035a hK, xt_1035b hK, g, g2, w0, w1, iand_255]
    · rw [if_neg (by omega)]
      simp (disch := omega) only [q_145_0, b_145_0, q_145_12, b_145_12, q_145_16, b_145_16, q_145_26, b_145_26, ↓w_iconst, ↓w_sipush, ↓w_aload_n_0, ↓w_iload_n_1, ↓w_iand, ↓w_getfield, ↓w_baload, ↓w_nop, ↓w_goto, ↓w_ifCond_lt, ↓w_if_icmp_lt, ↓w_ireturn0, stw_0, stw_i, stw_l, stw_r, ofK0, ofK1, ofK2, lst1, lst2, lkill, kont_none, kont_some, Int.reduceToNat, List.length_cons, List.length_nil, Nat.reduceAdd, Nat.reduceLeDiff, Nat.zero_le, true_and, and_true, if_true, if_false, ne_eq, Int.reduceEq, Int.reduceNeg, not_false_eq_true, not_true_eq_false, ↓reduceIte, Int.reduceLT, Int.reduceLE, and_self, or_true, true_or, or_false, false_or, false_and, and_false, ah_t_w, ah_m_w, ah_n_w, lst1_0, List.tail_cons, w32_i, zbd, lst2_0, xt_1a hK, xf_1_23 hK, xt_1035a hK, xt_1035b hK, g, g2]
theorem c_147 (hK : XG T h) : wpC (d + 2) 147 [.inr (.inr 1), .inl w] h Q ↔ Q (.inl (some (.inl (if 0 ≤ w ∧ w ≤ 5 then ah_m h 17 w else -1)))) h := by
  apply CT_iff; apply CT_of; rw [wpC_B]; refine ⟨⟨Nat.zero_lt_succ _, Nat.le_of_ble_eq_true rfl⟩, ?_⟩; simp only [lent]
  by_cases g : 0 ≤ w ∧ w ≤ 5
  · rw [if_pos g]
    have w0 := g.1
    have w1 : w < 6 := by omega
    have c1 : ∀ {Q : QQ}, wpC (d + 1) 92 [.inl w, .inl 0, .inl 5] h Q ↔ Q (.inl (some (.inl 1))) h := by intro Q; rw [c_92, if_pos g]
    simp (disch := omega) only [q_147_0, b_147_0, q_147_18, b_147_18, q_147_19, b_147_19, ↓w_iconst, ↓w_aload_n_0, ↓w_iload_n_1, ↓w_getfield, ↓w_iaload, ↓w_nop, ↓w_goto, ↓w_ifCond_eq, ↓w_ireturn0, ↓w_invokestatic_3, stw_0, stw_i, stw_l, stw_r, ofK0, ofK1, ofK2, lst1, lst2, lkill, kont_none, kont_some, Int.reduceToNat, List.length_cons, List.length_nil, Nat.reduceAdd, Nat.reduceLeDiff, Nat.zero_le, true_and, and_true, if_true, if_false, ne_eq, Int.reduceEq, Int.reduceNeg, not_false_eq_true, not_true_eq_false, ↓reduceIte, Int.reduceLT, Int.reduceLE, and_self, or_true, true_or, or_false, false_or, false_and, and_false, ah_t_w, ah_m_w, ah_n_w, lst1_0, List.tail_cons, w32_i, zbd, lst2_0, xt_1a hK, xf_1_8 hK, xt_17a hK, xt_17b hK, c1, w0, w1]
  · rw [if_neg g]
    have c1 : ∀ {Q : QQ}, wpC (d + 1) 92 [.inl w, .inl 0, .inl 5] h Q ↔ Q (.inl (some (.inl 0))) h := by intro Q; rw [c_92, if_neg g]
    simp (disch := omega) only [q_147_0, b_147_0, q_147_18, b_147_18, q_147_19, b_147_19, ↓w_iconst, ↓w_aload_n_0, ↓w_iload_n_1, ↓w_getfield, ↓w_iaload, ↓w_nop, ↓w_goto, ↓w_ifCond_eq, ↓w_ireturn0, ↓w_invokestatic_3, stw_0, stw_i, stw_l, stw_r, ofK0, ofK1, ofK2, lst1, lst2, lkill, kont_none, kont_some, Int.reduceToNat, List.length_cons, List.length_nil, Nat.reduceAdd, Nat.reduceLeDiff, Nat.zero_le, true_and, and_true, if_true, if_false, ne_eq, Int.reduceEq, Int.reduceNeg, not_false_eq_true, not_true_eq_false, ↓reduceIte, Int.reduceLT, Int.reduceLE, and_self, or_true, true_or, or_false, false_or, false_and, and_false, ah_t_w, ah_m_w, ah_n_w, lst1_0, List.tail_cons, w32_i, zbd, lst2_0, xt_1a hK, xf_1_8 hK, xt_17a hK, xt_17b hK, c1]
theorem c_87 (hK : XG T h) : wpC (d + 2) 87 [.inr (.inr 1), .inl w] h Q ↔ if w < 0 ∨ ah_m h 1 2 < w then Q (.inl (some (.inl 0))) (ah_w h 17 0 (w32 (ah_m h 17 0 + 1))) else Q (.inl (some (.inl 1))) (ah_w h 1 2 w) := by
  by_cases e : w < 0
  · rw [if_pos (Or.inl e)]
    apply CT_iff; apply CT_of; rw [wpC_B]; refine ⟨⟨Nat.zero_lt_succ _, Nat.le_of_ble_eq_true rfl⟩, ?_⟩; simp only [lent]
    simp (disch := omega) only [q_87_0, b_87_0, q_87_12, b_87_12, q_87_24, b_87_24, q_87_25, b_87_25, q_87_26, b_87_26, ↓w_iconst, ↓w_aload_n_0, ↓w_iload_n_1, ↓w_getfield, ↓w_putfield_0, ↓w_nop, ↓w_goto, ↓w_ifCond_lt, ↓w_if_icmp_le, ↓w_ireturn1, ↓w_invokevirtual_1, stw_0, stw_i, stw_l, stw_r, ofK0, ofK1, ofK2, lst1, lst2, lkill, kont_none, kont_some, Int.reduceToNat, List.length_cons, List.length_nil, Nat.reduceAdd, Nat.reduceLeDiff, Nat.zero_le, true_and, and_true, if_true, if_false, ne_eq, Int.reduceEq, Int.reduceNeg, not_false_eq_true, not_true_eq_false, ↓reduceIte, Int.reduceLT, Int.reduceLE, and_self, or_true, true_or, or_false, false_or, false_and, and_false, ah_t_w, ah_m_w, ah_n_w, lst1_0, List.tail_cons, w32_i, zbd, lst2_0, xt_1a hK, e, c_85 hK]
  · by_cases e2 : ah_m h 1 2 < w
    · rw [if_pos (Or.inr e2)]
      apply CT_iff; apply CT_of; rw [wpC_B]; refine ⟨⟨Nat.zero_lt_succ _, Nat.le_of_ble_eq_true rfl⟩, ?_⟩; simp only [lent]
      simp (disch := omega) only [q_87_0, b_87_0, q_87_12, b_87_12, q_87_24, b_87_24, q_87_25, b_87_25, q_87_26, b_87_26, ↓w_iconst, ↓w_aload_n_0, ↓w_iload_n_1, ↓w_getfield, ↓w_putfield_0, ↓w_nop, ↓w_goto, ↓w_ifCond_lt, ↓w_if_icmp_le, ↓w_ireturn1, ↓w_invokevirtual_1, stw_0, stw_i, stw_l, stw_r, ofK0, ofK1, ofK2, lst1, lst2, lkill, kont_none, kont_some, Int.reduceToNat, List.length_cons, List.length_nil, Nat.reduceAdd, Nat.reduceLeDiff, Nat.zero_le, true_and, and_true, if_true, if_false, ne_eq, Int.reduceEq, Int.reduceNeg, not_false_eq_true, not_true_eq_false, ↓reduceIte, Int.reduceLT, Int.reduceLE, and_self, or_true, true_or, or_false, false_or, false_and, and_false, ah_t_w, ah_m_w, ah_n_w, lst1_0, List.tail_cons, w32_i, zbd, lst2_0, xt_1a hK, e, e2, c_85 hK]
    · rw [if_neg (by omega)]
      apply CT_iff; apply CT_of; rw [wpC_B]; refine ⟨⟨Nat.zero_lt_succ _, Nat.le_of_ble_eq_true rfl⟩, ?_⟩; simp only [lent]
      simp (disch := omega) only [q_87_0, b_87_0, q_87_12, b_87_12, q_87_24, b_87_24, q_87_25, b_87_25, q_87_26, b_87_26, ↓w_iconst, ↓w_aload_n_0, ↓w_iload_n_1, ↓w_getfield, ↓w_putfield_0, ↓w_nop, ↓w_goto, ↓w_ifCond_lt, ↓w_if_icmp_le, ↓w_ireturn1, ↓w_invokevirtual_1, stw_0, stw_i, stw_l, stw_r, ofK0, ofK1, ofK2, lst1, lst2, lkill, kont_none, kont_some, Int.reduceToNat, List.length_cons, List.length_nil, Nat.reduceAdd, Nat.reduceLeDiff, Nat.zero_le, true_and, and_true, if_true, if_false, ne_eq, Int.reduceEq, Int.reduceNeg, not_false_eq_true, not_true_eq_false, ↓reduceIte, Int.reduceLT, Int.reduceLE, and_self, or_true, true_or, or_false, false_or, false_and, and_false, ah_t_w, ah_m_w, ah_n_w, lst1_0, List.tail_cons, w32_i, zbd, lst2_0, xt_1a hK, e, e2]
theorem l_86 (hK : XG T h) (n0 : 0 ≤ n) (n1 : n + 4 ≤ 1600) (hQ : ∀ h', Off (fun r i => (r = 1 ∧ i = 2) ∨ r = 10) h h' → ah_m h' 1 2 = n + 4 → (∀ i, ah_m h' 10 i = if n ≤ i ∧ i < n + 4 then w8 (ishr_ v (8 * (3 - (i - n)))) else ah_m h 10 i) → Q (.inl none) h') :
    ∀ (j : Nat) (k : Int) h', 0 ≤ k → k + j = 4 → Off (fun r i => (r = 1 ∧ i = 2) ∨ r = 10) h h' → ah_m h' 1 2 = n + k → (∀ i, ah_m h' 10 i = if n ≤ i ∧ i < n + k then w8 (ishr_ v (8 * (3 - (i - n)))) else ah_m h 10 i) → wpB d 86 3 [some (.inr (.inr 1)), some (.inl v), some (.inl (24 - 8 * k))] [] h' Q := by
  intro j
  induction j with
  | zero =>
    intro k h' k0 k1 hO e2 ht
    have e : k = 4 := by omega
    subst e
    simp (disch := omega) only [q_86_3, b_86_3, q_86_33, b_86_33, ↓w_iconst, ↓w_aload_n_0, ↓w_iload_n_1, ↓w_iload_n_2, ↓w_iinc_2, ↓w_dup_i, ↓w_dup_a, ↓w_dup_x1, ↓w_dup_x1a, ↓w_iadd, ↓w_ishr, ↓w_i2b, ↓w_getfield, ↓w_putfield_0, ↓w_bastore, ↓w_goto, ↓w_ifCond_lt, ↓w_return, stw_0, stw_i, stw_l, stw_r, ofK0, ofK1, ofK2, lst1, lst2, lkill, kont_none, kont_some, Int.reduceToNat, List.length_cons, List.length_nil, Nat.reduceAdd, Nat.reduceLeDiff, Nat.zero_le, true_and, and_true, if_true, if_false, ne_eq, Int.reduceEq, Int.reduceNeg, not_false_eq_true, not_true_eq_false, ↓reduceIte, Int.reduceLT, Int.reduceLE, and_self, or_true, true_or, or_false, false_or, false_and, and_false, ah_t_w, ah_m_w, ah_n_w, lst1_0, List.tail_cons, w32_i, zbd, lst2_0, Int.reduceMul, Int.reduceSub]
    exact hQ h' hO e2 ht
  | succ j ih =>
    intro k h' k0 k1 hO e2 ht
    have hK' : XG T h' := XG_off hK hO (fun r i w => by unfold fix BRr isS isV; omega)
    have hlt : ¬ 24 - 8 * k < 0 := by omega
    have b0 : 0 ≤ n + k := by omega
    have b1 : n + k < 1600 := by omega
    have hsh : (-2147483648 ≤ 24 - 8 * k + -8) := by omega
    rw [q_86_3]
    simp (disch := omega) only [b_86_3, ↓w_iconst, ↓w_aload_n_0, ↓w_iload_n_1, ↓w_iload_n_2, ↓w_iinc_2, ↓w_dup_i, ↓w_dup_a, ↓w_dup_x1, ↓w_dup_x1a, ↓w_iadd, ↓w_ishr, ↓w_i2b, ↓w_getfield, ↓w_putfield_0, ↓w_bastore, ↓w_goto, ↓w_ifCond_lt, stw_0, stw_i, stw_l, stw_r, ofK0, ofK1, ofK2, lst1, lst2, lkill, kont_none, kont_some, Int.reduceToNat, List.length_cons, List.length_nil, Nat.reduceAdd, Nat.reduceLeDiff, Nat.zero_le, true_and, and_true, if_true, if_false, ne_eq, Int.reduceEq, Int.reduceNeg, not_false_eq_true, not_true_eq_false, ↓reduceIte, Int.reduceLT, Int.reduceLE, and_self, or_true, true_or, or_false, false_or, false_and, and_false, ah_t_w, ah_m_w, ah_n_w, lst1_0, List.tail_cons, w32_i, zbd, lst2_0, xt_1a hK', xf_1_1 hK', xt_10a hK', xt_10b hK', hlt, e2, b0, b1]
    have e8 : w8 (w8 (ishr_ v (24 - 8 * k))) = w8 (ishr_ v (24 - 8 * k)) := by unfold w8; omega
    have := ih (k + 1) (ah_w (ah_w h' 1 2 (n + k + 1)) 10 (n + k) (w8 (ishr_ v (24 - 8 * k)))) (by omega) (by omega) (Off_w (Off_w hO (Or.inl ⟨rfl, rfl⟩)) (Or.inr rfl)) (by rw [ah_m_w, if_neg (by omega), ah_m_w, if_pos ⟨rfl, rfl⟩]; omega) (fun i => ?_)
    · rw [show 24 - 8 * (k + 1) = 24 - 8 * k + -8 by omega] at this
      rw [e8]
      exact this
    · rw [ah_m_w]
      by_cases g : i = n + k
      · rw [if_pos ⟨rfl, g⟩, if_pos (by omega), g, show 8 * (3 - (n + k - n)) = 24 - 8 * k by omega]
      · rw [if_neg (fun q => g q.2), ah_m_w, if_neg (by omega), ht i]
        by_cases g2 : n ≤ i ∧ i < n + k
        · rw [if_pos g2, if_pos (by omega)]
        · rw [if_neg g2, if_neg (by omega)]
theorem c_86 (hK : XG T h) (en : ah_m h 1 2 = n) (n0 : 0 ≤ n) (n1 : n + 4 ≤ 1600) (hQ : ∀ h', XG T h' → Off (fun r i => (r = 1 ∧ i = 2) ∨ r = 10) h h' → ah_m h' 1 2 = n + 4 → (∀ i, ah_m h' 10 i = if n ≤ i ∧ i < n + 4 then w8 (ishr_ v (8 * (3 - (i - n)))) else ah_m h 10 i) → Q (.inl none) h') : wpC (d + 1) 86 [.inr (.inr 1), .inl v] h Q := by
  rw [wpC_B]; refine ⟨⟨Nat.zero_lt_succ _, Nat.le_of_ble_eq_true rfl⟩, ?_⟩; simp only [lent]
  simp (disch := omega) only [q_86_0, b_86_0, ↓w_bipush, ↓w_istore_n_2, ↓w_nop, stw_0, stw_i, stw_l, stw_r, ofK0, ofK1, ofK2, lst1, lst2, lkill, kont_none, kont_some, Int.reduceToNat, List.length_cons, List.length_nil, Nat.reduceAdd, Nat.reduceLeDiff, Nat.zero_le, true_and, and_true, if_true, if_false, ne_eq, Int.reduceEq, Int.reduceNeg, not_false_eq_true, not_true_eq_false, ↓reduceIte, Int.reduceLT, Int.reduceLE, and_self, or_true, true_or, or_false, false_or, false_and, and_false, ah_t_w, ah_m_w, ah_n_w, lst1_0, List.tail_cons, w32_i, zbd, lst2_0]
  have := l_86 (d := d) (v := v) hK n0 n1 (fun h' hO a b => hQ h' (XG_off hK hO (fun r i w => by unfold fix BRr isS isV; omega)) hO a b) 4 0 h (by omega) (by omega) Off_rfl (by omega) (fun i => by rw [if_neg (by omega)])
  rw [show (24 : Int) - 8 * 0 = 24 by omega] at this
  exact this
theorem c_84 (hK : XG T h) (en : ah_m h 1 2 = n) (n0 : 0 ≤ n) (n16 : n ≤ 1600) (hT : XTp tp n h)
    (hQ0 : 1600 < n + 20 → Q (.inl (some (.inl (-1)))) (ah_w h 17 0 (w32 (ah_m h 17 0 + 1))))
    (hQ1 : ∀ h', ¬ 1600 < n + 20 → XG T h' → Off (fun r i => (r = 1 ∧ i = 2) ∨ r = 10) h h' → ah_m h' 1 2 = n + 20 → XTp (zfeed tp n a b x v e 20) (n + 20) h' → Q (.inl (some (.inl (n + 20)))) h') : wpC (d + 2) 84 [.inr (.inr 1), .inl a, .inl b, .inl x, .inl v, .inl e] h Q := by
  rw [wpC_B]; refine ⟨⟨Nat.zero_lt_succ _, Nat.le_of_ble_eq_true rfl⟩, ?_⟩; simp only [lent]
  by_cases g : 1600 < n + 20
  · simp (disch := omega) only [q_84_0, b_84_0, ↓w_iconst, ↓w_bipush, ↓w_sipush, ↓w_aload_n_0, ↓w_iadd, ↓w_getfield, ↓w_if_icmp_le, ↓w_ireturn0, ↓w_invokevirtual_1, stw_0, stw_i, stw_l, stw_r, ofK0, ofK1, ofK2, lst1, lst2, lkill, kont_none, kont_some, Int.reduceToNat, List.length_cons, List.length_nil, Nat.reduceAdd, Nat.reduceLeDiff, Nat.zero_le, true_and, and_true, if_true, if_false, ne_eq, Int.reduceEq, Int.reduceNeg, not_false_eq_true, not_true_eq_false, ↓reduceIte, Int.reduceLT, Int.reduceLE, and_self, or_true, true_or, or_false, false_or, false_and, and_false, ah_t_w, ah_m_w, ah_n_w, lst1_0, List.tail_cons, w32_i, zbd, lst2_0, xt_1a hK, en, g, c_85 hK]
    exact hQ0 g
  · simp (disch := omega) only [q_84_0, b_84_0, q_84_19, b_84_19, ↓w_iconst, ↓w_bipush, ↓w_sipush, ↓w_aload_n_0, ↓w_iload_n_1, ↓w_iload_n_2, ↓w_iload_n_3, ↓w_iload_4, ↓w_iload_5, ↓w_iadd, ↓w_getfield, ↓w_if_icmp_le, ↓w_ireturn0, ↓w_invokevirtual_1, stw_0, stw_i, stw_l, stw_r, ofK0, ofK1, ofK2, lst1, lst2, lkill, kont_none, kont_some, Int.reduceToNat, List.length_cons, List.length_nil, Nat.reduceAdd, Nat.reduceLeDiff, Nat.zero_le, true_and, and_true, if_true, if_false, ne_eq, Int.reduceEq, Int.reduceNeg, not_false_eq_true, not_true_eq_false, ↓reduceIte, Int.reduceLT, Int.reduceLE, and_self, or_true, true_or, or_false, false_or, false_and, and_false, ah_t_w, ah_m_w, ah_n_w, lst1_0, List.tail_cons, w32_i, zbd, lst2_0, xt_1a hK, en, g]
    refine c_86 (d := d) hK en n0 (by omega) (fun h1 hK1 hO1 e1 t1 => ?_)
    have u1 := xt_1a hK1
    simp (disch := omega) only [b_84_19, ↓w_aload_n_0, ↓w_iload_n_1, ↓w_iload_n_2, ↓w_iload_n_3, ↓w_iload_4, ↓w_iload_5, ↓w_getfield, ↓w_ireturn0, ↓w_invokevirtual_1, stw_0, stw_i, stw_l, stw_r, ofK0, ofK1, ofK2, lst1, lst2, lkill, kont_none, kont_some, Int.reduceToNat, List.length_cons, List.length_nil, Nat.reduceAdd, Nat.reduceLeDiff, Nat.zero_le, true_and, and_true, if_true, if_false, ne_eq, Int.reduceEq, Int.reduceNeg, not_false_eq_true, not_true_eq_false, ↓reduceIte, Int.reduceLT, Int.reduceLE, and_self, or_true, true_or, or_false, false_or, false_and, and_false, ah_t_w, ah_m_w, ah_n_w, lst1_0, List.tail_cons, w32_i, zbd, lst2_0, u1]
    refine c_86 (d := d) (n := n + 4) hK1 e1 (by omega) (by omega) (fun h2 hK2 hO2 e2 t2 => ?_)
    have u2 := xt_1a hK2
    simp (disch := omega) only [b_84_19, ↓w_aload_n_0, ↓w_iload_n_1, ↓w_iload_n_2, ↓w_iload_n_3, ↓w_iload_4, ↓w_iload_5, ↓w_getfield, ↓w_ireturn0, ↓w_invokevirtual_1, stw_0, stw_i, stw_l, stw_r, ofK0, ofK1, ofK2, lst1, lst2, lkill, kont_none, kont_some, Int.reduceToNat, List.length_cons, List.length_nil, Nat.reduceAdd, Nat.reduceLeDiff, Nat.zero_le, true_and, and_true, if_true, if_false, ne_eq, Int.reduceEq, Int.reduceNeg, not_false_eq_true, not_true_eq_false, ↓reduceIte, Int.reduceLT, Int.reduceLE, and_self, or_true, true_or, or_false, false_or, false_and, and_false, ah_t_w, ah_m_w, ah_n_w, lst1_0, List.tail_cons, w32_i, zbd, lst2_0, u2]
    refine c_86 (d := d) (n := n + 8) hK2 (by omega) (by omega) (by omega) (fun h3 hK3 hO3 e3 t3 => ?_)
    have u3 := xt_1a hK3
    simp (disch := omega) only [b_84_19, ↓w_aload_n_0, ↓w_iload_n_1, ↓w_iload_n_2, ↓w_iload_n_3, ↓w_iload_4, ↓w_iload_5, ↓w_getfield, ↓w_ireturn0, ↓w_invokevirtual_1, stw_0, stw_i, stw_l, stw_r, ofK0, ofK1, ofK2, lst1, lst2, lkill, kont_none, kont_some, Int.reduceToNat, List.length_cons, List.length_nil, Nat.reduceAdd, Nat.reduceLeDiff, Nat.zero_le, true_and, and_true, if_true, if_false, ne_eq, Int.reduceEq, Int.reduceNeg, not_false_eq_true, not_true_eq_false, ↓reduceIte, Int.reduceLT, Int.reduceLE, and_self, or_true, true_or, or_false, false_or, false_and, and_false, ah_t_w, ah_m_w, ah_n_w, lst1_0, List.tail_cons, w32_i, zbd, lst2_0, u3]
    refine c_86 (d := d) (n := n + 12) hK3 (by omega) (by omega) (by omega) (fun h4 hK4 hO4 e4 t4 => ?_)
    have u4 := xt_1a hK4
    simp (disch := omega) only [b_84_19, ↓w_aload_n_0, ↓w_iload_n_1, ↓w_iload_n_2, ↓w_iload_n_3, ↓w_iload_4, ↓w_iload_5, ↓w_getfield, ↓w_ireturn0, ↓w_invokevirtual_1, stw_0, stw_i, stw_l, stw_r, ofK0, ofK1, ofK2, lst1, lst2, lkill, kont_none, kont_some, Int.reduceToNat, List.length_cons, List.length_nil, Nat.reduceAdd, Nat.reduceLeDiff, Nat.zero_le, true_and, and_true, if_true, if_false, ne_eq, Int.reduceEq, Int.reduceNeg, not_false_eq_true, not_true_eq_false, ↓reduceIte, Int.reduceLT, Int.reduceLE, and_self, or_true, true_or, or_false, false_or, false_and, and_false, ah_t_w, ah_m_w, ah_n_w, lst1_0, List.tail_cons, w32_i, zbd, lst2_0, u4]
    refine c_86 (d := d) (n := n + 16) hK4 (by omega) (by omega) (by omega) (fun h5 hK5 hO5 e5 t5 => ?_)
    have u5 := xt_1a hK5
    simp (disch := omega) only [b_84_19, ↓w_aload_n_0, ↓w_iload_n_1, ↓w_iload_n_2, ↓w_iload_n_3, ↓w_iload_4, ↓w_iload_5, ↓w_getfield, ↓w_ireturn0, ↓w_invokevirtual_1, stw_0, stw_i, stw_l, stw_r, ofK0, ofK1, ofK2, lst1, lst2, lkill, kont_none, kont_some, Int.reduceToNat, List.length_cons, List.length_nil, Nat.reduceAdd, Nat.reduceLeDiff, Nat.zero_le, true_and, and_true, if_true, if_false, ne_eq, Int.reduceEq, Int.reduceNeg, not_false_eq_true, not_true_eq_false, ↓reduceIte, Int.reduceLT, Int.reduceLE, and_self, or_true, true_or, or_false, false_or, false_and, and_false, ah_t_w, ah_m_w, ah_n_w, lst1_0, List.tail_cons, w32_i, zbd, lst2_0, u5, e5]
    rw [show n + 16 + 4 = n + 20 by omega] at e5 ⊢
    refine hQ1 h5 g hK5 (Off_tr hO1 (Off_tr hO2 (Off_tr hO3 (Off_tr hO4 hO5)))) e5 (fun i i0 i1 => ?_)
    have hby : ∀ z j, (-128 ≤ w8 (ishr_ z (8 * (3 - j))) ∧ w8 (ishr_ z (8 * (3 - j))) < 128) ∧ w8 (ishr_ z (8 * (3 - j))) % 256 = zby z j := fun z j => by
      have := w8_b (ishr_ z (8 * (3 - j)))
      unfold zby; rw [iand_255]; exact this
    unfold zfeed
    by_cases q : n ≤ i
    · rw [if_pos ⟨q, by omega⟩]
      unfold zwd
      by_cases q5 : n + 16 ≤ i
      · rw [t5, if_pos (by omega), if_neg (by omega), if_neg (by omega), if_neg (by omega), if_neg (by omega)]
        have := hby e (i - (n + 16))
        rw [show (i - n) % 4 = i - (n + 16) by omega]; exact this
      · rw [t5, if_neg (by omega)]
        by_cases q4 : n + 12 ≤ i
        · rw [t4, if_pos (by omega), if_neg (by omega), if_neg (by omega), if_neg (by omega), if_pos (by omega)]
          have := hby v (i - (n + 12))
          rw [show (i - n) % 4 = i - (n + 12) by omega]; exact this
        · rw [t4, if_neg (by omega)]
          by_cases q3 : n + 8 ≤ i
          · rw [t3, if_pos (by omega), if_neg (by omega), if_neg (by omega), if_pos (by omega)]
            have := hby x (i - (n + 8))
            rw [show (i - n) % 4 = i - (n + 8) by omega]; exact this
          · rw [t3, if_neg (by omega)]
            by_cases q2 : n + 4 ≤ i
            · rw [t2, if_pos (by omega), if_neg (by omega), if_pos (by omega)]
              have := hby b (i - (n + 4))
              rw [show (i - n) % 4 = i - (n + 4) by omega]; exact this
            · rw [t2, if_neg (by omega), t1, if_pos (by omega), if_pos (by omega)]
              have := hby a (i - n)
              rw [show (i - n) % 4 = i - n by omega]; exact this
    · rw [if_neg (fun z => q z.1), t5, if_neg (by omega), t4, if_neg (by omega), t3, if_neg (by omega), t2, if_neg (by omega), t1, if_neg (by omega)]
      exact hT i i0 (by omega)
end Z3
