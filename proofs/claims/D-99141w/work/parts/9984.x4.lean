/-! ===== X: finds ===== -/
section X4
variable {W : Int → Int → Prop} {d : Nat} {h h' h0 : AH} {Q : QQ} {x y z m k s l w a b c v n p r o i f : Int} {S T T' : Int → Int → Int} {t nw : Int → Int}
set_option maxHeartbeats 4000000
theorem l_215_39 (hK : XG T h) (hS : XS T nw s h) (h40 : nw 24 ≤ 40) (hN : NV T nw) (hV : isV v) (m0 : 0 ≤ m) (m1 : m < T 1072 4) {E : List (Int × Int)} {tl : ALoc}
    (hQ : ∀ h' p', XM T v E h' → (E.length : Int) ≤ 25 * (m + 1) → Off (Wmv v) h h' → wpB (d + 6) 215 96 (some (.inr (.inr s)) :: some (.inl z) :: some (.inr (.inr v)) :: some (.inl m) :: some (.inl p') :: tl) [] h' Q) :
    ∀ (j : Nat) (p : Int) (L : List (Int × Int)) h', 0 ≤ p → p + j = 5 * T 1074 5 → L ++ zx5 T nw m j p = E → XM T v L h' → (L.length : Int) ≤ 25 * m + p → Off (Wmv v) h h' → wpB (d + 6) 215 39 (some (.inr (.inr s)) :: some (.inl z) :: some (.inr (.inr v)) :: some (.inl m) :: some (.inl p) :: tl) [] h' Q := by
  have hR := hK.2.2.2.2.2.2.1
  have hC := hK.2.2.2.2.2.1
  have n8 := hK.2.2.2.1
  intro j
  induction j with
  | zero =>
    intro p L h' p0 p1 e hx hl hO
    have hK' := XG_off hK hO (Wmv_ok hV)
    have hS' := XS_off hS h40 hO (Wmv_S hV hS.1)
    have hlt : ¬ p < 5 * T 1074 5 := by omega
    simp only [zx5, List.append_nil] at e
    simp (disch := omega) only [q_215_39, b_215_39, ↓w_iconst, ↓w_aload_n_0, ↓w_aload_n_2, ↓w_iload_n_3, ↓w_iload_4, ↓w_imul, ↓w_irem, ↓w_getfield, ↓w_nop, ↓w_ifCond_eq, ↓w_if_icmp_ge, ↓w_invokevirtual_2, stw_0, stw_i, stw_l, stw_r, ofK0, ofK1, ofK2, lst1, lst2, lkill, kont_none, kont_some, Int.reduceToNat, List.length_cons, List.length_nil, Nat.reduceAdd, Nat.reduceLeDiff, Nat.zero_le, true_and, and_true, if_true, if_false, ne_eq, Int.reduceEq, Int.reduceNeg, not_false_eq_true, not_true_eq_false, ↓reduceIte, Int.reduceLT, Int.reduceLE, and_self, or_true, true_or, or_false, false_or, false_and, and_false, ah_t_w, ah_m_w, ah_n_w, lst1_0, List.tail_cons, w32_i, zbd, lst2_0, xt_1a hK', x_0, xb_t hK', xb_1 hK', xb_2 hK', s_t hK' hS', s_11 hK' hS', hlt]
    exact hQ _ _ (e ▸ hx) (by rw [← e]; omega) hO
  | succ j ih =>
    intro p L h' p0 p1 e hx hl hO
    have hK' := XG_off hK hO (Wmv_ok hV)
    have hS' := XS_off hS h40 hO (Wmv_S hV hS.1)
    have hlt : p < 5 * T 1074 5 := by omega
    have tm := tm5 p0
    rw [q_215_39]
    simp only [zx5] at e
    by_cases g : p % 5 < T 1074 4
    · have cg : ∀ {d : Nat} {Q : QQ}, wpC (d + 6) 216 [.inr (.inr s), .inl m, .inl p] h' Q ↔ Q (.inl (some (.inl (zb (zgo nw (T 1076) (T 1075) (zn T) (p % 5) (p / 5) m))))) h' := fun {d Q} => by
        have := c_216 (d := d) (Q := Q) hK' hS' hN m0 m1 (x := p % 5) (y := p / 5) (by omega) (by omega)
        rw [show 5 * (p / 5) + p % 5 = p by omega] at this
        exact this
      by_cases g2 : zgo nw (T 1076) (T 1075) (zn T) (p % 5) (p / 5) m = true
      · rw [if_pos ⟨g, g2⟩] at e
        simp (disch := omega) only [b_215_39, q_215_90, b_215_90, ↓w_iconst, ↓w_aload_n_0, ↓w_aload_n_2, ↓w_iload_n_3, ↓w_iload_4, ↓w_iinc_4, ↓w_imul, ↓w_irem, ↓w_getfield, ↓w_nop, ↓w_goto, ↓w_ifCond_eq, ↓w_if_icmp_ge, ↓w_invokevirtual_2, stw_0, stw_i, stw_l, stw_r, ofK0, ofK1, ofK2, lst1, lst2, lkill, kont_none, kont_some, Int.reduceToNat, List.length_cons, List.length_nil, Nat.reduceAdd, Nat.reduceLeDiff, Nat.zero_le, true_and, and_true, if_true, if_false, ne_eq, Int.reduceEq, Int.reduceNeg, not_false_eq_true, not_true_eq_false, ↓reduceIte, Int.reduceLT, Int.reduceLE, and_self, or_true, true_or, or_false, false_or, false_and, and_false, ah_t_w, ah_m_w, ah_n_w, lst1_0, List.tail_cons, w32_i, zbd, lst2_0, xt_1a hK', x_0, xb_t hK', xb_1 hK', xb_2 hK', s_t hK' hS', s_11 hK' hS', hlt, tm, g, cg, g2, zb, vv_t hK' hV, c_210 hK' hV hx.1]
        refine ih (p + 1) (L ++ [(m, zk5 T p)]) _ (by omega) (by omega) (by rw [List.append_assoc]; exact e) (XM_add (q := (m, zk5 T p)) (zp5_k p0 g) rfl hx) (by simp; omega) (Off_w (Off_w (Off_w hO (Or.inr (Or.inl rfl))) (Or.inr (Or.inr rfl))) (Or.inl ⟨rfl, rfl⟩))
      · rw [if_neg (fun q => g2 q.2)] at e
        simp (disch := omega) only [b_215_39, q_215_90, b_215_90, ↓w_iconst, ↓w_aload_n_0, ↓w_aload_n_2, ↓w_iload_n_3, ↓w_iload_4, ↓w_iinc_4, ↓w_imul, ↓w_irem, ↓w_getfield, ↓w_nop, ↓w_goto, ↓w_ifCond_eq, ↓w_if_icmp_ge, ↓w_invokevirtual_2, stw_0, stw_i, stw_l, stw_r, ofK0, ofK1, ofK2, lst1, lst2, lkill, kont_none, kont_some, Int.reduceToNat, List.length_cons, List.length_nil, Nat.reduceAdd, Nat.reduceLeDiff, Nat.zero_le, true_and, and_true, if_true, if_false, ne_eq, Int.reduceEq, Int.reduceNeg, not_false_eq_true, not_true_eq_false, ↓reduceIte, Int.reduceLT, Int.reduceLE, and_self, or_true, true_or, or_false, false_or, false_and, and_false, ah_t_w, ah_m_w, ah_n_w, lst1_0, List.tail_cons, w32_i, zbd, lst2_0, xt_1a hK', x_0, xb_t hK', xb_1 hK', xb_2 hK', s_t hK' hS', s_11 hK' hS', hlt, tm, g, cg, g2, zb, Bool.false_eq_true]
        exact ih (p + 1) L _ (by omega) (by omega) e hx (by omega) hO
    · rw [if_neg (fun q => g q.1)] at e
      simp (disch := omega) only [b_215_39, q_215_90, b_215_90, ↓w_iconst, ↓w_aload_n_0, ↓w_aload_n_2, ↓w_iload_n_3, ↓w_iload_4, ↓w_iinc_4, ↓w_imul, ↓w_irem, ↓w_getfield, ↓w_nop, ↓w_goto, ↓w_ifCond_eq, ↓w_if_icmp_ge, ↓w_invokevirtual_2, stw_0, stw_i, stw_l, stw_r, ofK0, ofK1, ofK2, lst1, lst2, lkill, kont_none, kont_some, Int.reduceToNat, List.length_cons, List.length_nil, Nat.reduceAdd, Nat.reduceLeDiff, Nat.zero_le, true_and, and_true, if_true, if_false, ne_eq, Int.reduceEq, Int.reduceNeg, not_false_eq_true, not_true_eq_false, ↓reduceIte, Int.reduceLT, Int.reduceLE, and_self, or_true, true_or, or_false, false_or, false_and, and_false, ah_t_w, ah_m_w, ah_n_w, lst1_0, List.tail_cons, w32_i, zbd, lst2_0, xt_1a hK', x_0, xb_t hK', xb_1 hK', xb_2 hK', s_t hK' hS', s_11 hK' hS', hlt, tm, g]
      exact ih (p + 1) L _ (by omega) (by omega) e hx (by omega) hO
theorem l_215_7 (hK : XG T h) (hS : XS T nw s h) (h40 : nw 24 ≤ 40) (hN : NV T nw) (hV : isV v) {E : List (Int × Int)} (hQ : ∀ h', XM T v E h' → (E.length : Int) ≤ 200 → Off (Wmv v) h h' → Q (.inl none) h') :
    ∀ (j : Nat) (m : Int) (L : List (Int × Int)) tl h', 0 ≤ m → m + j = T 1072 4 → L ++ zmm T nw z j m = E → XM T v L h' → (L.length : Int) ≤ 25 * m → Off (Wmv v) h h' → wpB (d + 6) 215 7 (some (.inr (.inr s)) :: some (.inl z) :: some (.inr (.inr v)) :: some (.inl m) :: tl) [] h' Q := by
  have hR := hK.2.2.2.2.2.2.1
  have hC := hK.2.2.2.2.2.1
  have n8 := hK.2.2.2.1
  intro j
  induction j with
  | zero =>
    intro m L tl h' m0 m1 e hx hl hO
    have hK' := XG_off hK hO (Wmv_ok hV)
    have hS' := XS_off hS h40 hO (Wmv_S hV hS.1)
    have hlt : ¬ m < T 1072 4 := by omega
    simp only [zmm, List.append_nil] at e
    simp (disch := omega) only [q_215_7, b_215_7, q_215_102, b_215_102, ↓w_aload_n_0, ↓w_iload_n_1, ↓w_iload_n_3, ↓w_getfield, ↓w_goto, ↓w_if_icmp_eq, ↓w_if_icmp_ge, ↓w_return, ↓w_invokevirtual_0, ↓w_invokevirtual_1, stw_0, stw_i, stw_l, stw_r, ofK0, ofK1, ofK2, lst1, lst2, lkill, kont_none, kont_some, Int.reduceToNat, List.length_cons, List.length_nil, Nat.reduceAdd, Nat.reduceLeDiff, Nat.zero_le, true_and, and_true, if_true, if_false, ne_eq, Int.reduceEq, Int.reduceNeg, not_false_eq_true, not_true_eq_false, ↓reduceIte, Int.reduceLT, Int.reduceLE, and_self, or_true, true_or, or_false, false_or, false_and, and_false, ah_t_w, ah_m_w, ah_n_w, lst1_0, List.tail_cons, w32_i, zbd, lst2_0, xt_1a hK', s_t hK' hS', s_11 hK' hS', hlt, c_81 hK']
    exact hQ _ (e ▸ hx) (by rw [← e]; omega) hO
  | succ j ih =>
    intro m L tl h' m0 m1 e hx hl hO
    have hK' := XG_off hK hO (Wmv_ok hV)
    have hS' := XS_off hS h40 hO (Wmv_S hV hS.1)
    have hlt : m < T 1072 4 := by omega
    rw [q_215_7]
    simp only [zmm] at e
    by_cases g : zs T m = z
    · rw [if_pos g] at e
      simp (disch := omega) only [b_215_7, q_215_36, b_215_36, ↓w_iconst, ↓w_aload_n_0, ↓w_iload_n_1, ↓w_iload_n_3, ↓w_istore, ↓w_getfield, ↓w_nop, ↓w_goto, ↓w_if_icmp_eq, ↓w_if_icmp_ge, ↓w_invokevirtual_0, ↓w_invokevirtual_1, stw_0, stw_i, stw_l, stw_r, ofK0, ofK1, ofK2, lst1, lst2, lkill, kont_none, kont_some, Int.reduceToNat, List.length_cons, List.length_nil, Nat.reduceAdd, Nat.reduceLeDiff, Nat.zero_le, true_and, and_true, if_true, if_false, ne_eq, Int.reduceEq, Int.reduceNeg, not_false_eq_true, not_true_eq_false, ↓reduceIte, Int.reduceLT, Int.reduceLE, and_self, or_true, true_or, or_false, false_or, false_and, and_false, ah_t_w, ah_m_w, ah_n_w, lst1_0, List.tail_cons, w32_i, zbd, lst2_0, xt_1a hK', s_t hK' hS', s_11 hK' hS', hlt, c_81 hK', c_83 hK' m0 hlt, ma_t hK' m0 hlt, ma_2 hK' m0 hlt, g]
      have hE := zx5_mk (m := m) (nw := nw) (T := T) hC hR.1
      refine l_215_39 hK' hS' h40 hN hV m0 hlt (E := L ++ zmk T nw m (zP T) 0) (fun h2 p' hx2 hl2 hO2 => ?_) (5 * T 1074 5).toNat 0 L h' (by omega) (by omega) (by rw [hE]) hx (by omega) Off_rfl
      simp (disch := omega) only [q_215_96, b_215_96, ↓w_iinc_3, ↓w_goto, stw_0, stw_i, stw_l, stw_r, ofK0, ofK1, ofK2, lst1, lst2, lkill, kont_none, kont_some, Int.reduceToNat, List.length_cons, List.length_nil, Nat.reduceAdd, Nat.reduceLeDiff, Nat.zero_le, true_and, and_true, if_true, if_false, ne_eq, Int.reduceEq, Int.reduceNeg, not_false_eq_true, not_true_eq_false, ↓reduceIte, Int.reduceLT, Int.reduceLE, and_self, or_true, true_or, or_false, false_or, false_and, and_false, ah_t_w, ah_m_w, ah_n_w, lst1_0, List.tail_cons, w32_i, zbd, lst2_0]
      exact ih (m + 1) _ _ _ (by omega) (by omega) (by rw [List.append_assoc]; exact e) hx2 hl2 (Off_tr hO hO2)
    · rw [if_neg g, List.nil_append] at e
      simp (disch := omega) only [b_215_7, q_215_96, b_215_96, ↓w_aload_n_0, ↓w_iload_n_1, ↓w_iload_n_3, ↓w_iinc_3, ↓w_getfield, ↓w_goto, ↓w_if_icmp_eq, ↓w_if_icmp_ge, ↓w_invokevirtual_0, ↓w_invokevirtual_1, stw_0, stw_i, stw_l, stw_r, ofK0, ofK1, ofK2, lst1, lst2, lkill, kont_none, kont_some, Int.reduceToNat, List.length_cons, List.length_nil, Nat.reduceAdd, Nat.reduceLeDiff, Nat.zero_le, true_and, and_true, if_true, if_false, ne_eq, Int.reduceEq, Int.reduceNeg, not_false_eq_true, not_true_eq_false, ↓reduceIte, Int.reduceLT, Int.reduceLE, and_self, or_true, true_or, or_false, false_or, false_and, and_false, ah_t_w, ah_m_w, ah_n_w, lst1_0, List.tail_cons, w32_i, zbd, lst2_0, xt_1a hK', s_t hK' hS', s_11 hK' hS', hlt, c_81 hK', c_83 hK' m0 hlt, ma_t hK' m0 hlt, ma_2 hK' m0 hlt, g]
      exact ih (m + 1) L _ _ (by omega) (by omega) e hx (by omega) hO
theorem c_215 (hK : XG T h) (hS : XS T nw s h) (h40 : nw 24 ≤ 40) (hN : NV T nw) (hV : isV v) (hQ : ∀ h', XM T v (zmm T nw z (zn T) 0) h' → ((zmm T nw z (zn T) 0).length : Int) ≤ 200 → Off (Wmv v) h h' → Q (.inl none) h') : wpC (d + 7) 215 [.inr (.inr s), .inl z, .inr (.inr v)] h Q := by
  have n8 := hK.2.2.2.1
  have hzn : ((zn T : Nat) : Int) = T 1072 4 := by unfold zn; omega
  have hv : 0 < v := by unfold isV at hV; omega
  rw [wpC_B]; refine ⟨⟨Nat.zero_lt_succ _, Nat.le_of_ble_eq_true rfl⟩, ?_⟩; simp only [lent]
  simp (disch := omega) only [q_215_0, b_215_0, ↓w_iconst, ↓w_aload_n_2, ↓w_istore_n_3, ↓w_putfield_0, ↓w_nop, stw_0, stw_i, stw_l, stw_r, ofK0, ofK1, ofK2, lst1, lst2, lkill, kont_none, kont_some, Int.reduceToNat, List.length_cons, List.length_nil, Nat.reduceAdd, Nat.reduceLeDiff, Nat.zero_le, true_and, and_true, if_true, if_false, ne_eq, Int.reduceEq, Int.reduceNeg, not_false_eq_true, not_true_eq_false, ↓reduceIte, Int.reduceLT, Int.reduceLE, and_self, or_true, true_or, or_false, false_or, false_and, and_false, ah_t_w, ah_m_w, ah_n_w, lst1_0, List.tail_cons, w32_i, zbd, lst2_0, vv_t hK hV, hv]
  have hO : Off (Wmv v) h (ah_w h v 2 0) := Off_w Off_rfl (Or.inl ⟨rfl, rfl⟩)
  exact l_215_7 hK hS h40 hN hV hQ (zn T) 0 [] _ _ (by omega) (by omega) rfl ⟨by rw [ah_m_w, if_pos ⟨rfl, rfl⟩]; rfl, trivial⟩ (by simp) hO
end X4
