/-! ===== X: which game it was (see, played, reached) ===== -/
def XSE (sr : Int → Int) (rm : Int) (h : AH) : Prop := ah_m h 1 17 = rm ∧ ∀ k, 0 ≤ k → k < rm → ah_m h 116 k = sr (3 * k) ∧ ah_m h 117 k = 256 * sr (3 * k + 1) + sr (3 * k + 2)
section Z8
variable {W : Int → Int → Prop} {d : Nat} {h h' h1 h0 : AH} {Q : QQ} {x y z m k s l w a b v n p r o i f D0 D1 rm fr : Int} {S T T' : Int → Int → Int} {t nw nw' pt of tp sr hm g : Int → Int} {tl : ALoc} {c : Int × Int × Int}
set_option maxHeartbeats 4000000
theorem XT_off (hT : XTp tp n h) (hO : Off W h h') (hW : ∀ r i, W r i → r ≠ 10) : XTp tp n h' := fun i a b => by
  rw [hO.2 _ _ (fun w => hW _ _ w rfl)]; exact hT i a b
theorem c_126 (hK : XG T h) (hT : XTp tp n h) (k0 : 0 ≤ k) (k1 : k < n) (n16 : n ≤ 1600) : wpC (d + 1) 126 [.inr (.inr 1), .inl k] h Q ↔ Q (.inl (some (.inl (tp k)))) h := by
  have e := (hT k k0 k1).2
  have b1 : k < 1600 := by omega
  apply CT_iff; apply CT_of; rw [wpC_B]; refine ⟨⟨Nat.zero_lt_succ _, Nat.le_of_ble_eq_true rfl⟩, ?_⟩; simp only [lent]
  simp (disch := omega) only [q_126_0, b_126_0, ↓w_sipush, ↓w_aload_n_0, ↓w_iload_n_1, ↓w_iand, ↓w_getfield, ↓w_baload, ↓w_ireturn0, stw_0, stw_i, stw_l, stw_r, ofK0, ofK1, ofK2, lst1, lst2, lkill, kont_none, kont_some, Int.reduceToNat, List.length_cons, List.length_nil, Nat.reduceAdd, Nat.reduceLeDiff, Nat.zero_le, true_and, and_true, if_true, if_false, ne_eq, Int.reduceEq, Int.reduceNeg, not_false_eq_true, not_true_eq_false, ↓reduceIte, Int.reduceLT, Int.reduceLE, and_self, or_true, true_or, or_false, false_or, false_and, and_false, ah_t_w, ah_m_w, ah_n_w, lst1_0, List.tail_cons, w32_i, zbd, lst2_0, xt_1a hK, xf_1_1 hK, xt_10a hK, xt_10b hK, iand_255, e, k0, b1]
theorem c_127 (hK : XG T h) (hT : XTp tp n h) (hv : TPV tp n) (k0 : 0 ≤ k) (k1 : k + 1 < n) : wpC (d + 2) 127 [.inr (.inr 1), .inl k] h Q ↔ Q (.inl (some (.inl (256 * tp k + tp (k + 1))))) h := by
  have n16 := hv.1.2
  have b0 := hv.2 k k0 (by omega)
  have b1 := hv.2 (k + 1) (by omega) k1
  have e := two_at b0 b1
  apply CT_iff; apply CT_of; rw [wpC_B]; refine ⟨⟨Nat.zero_lt_succ _, Nat.le_of_ble_eq_true rfl⟩, ?_⟩; simp only [lent]
  simp (disch := omega) only [q_127_0, b_127_0, ↓w_iconst, ↓w_bipush, ↓w_aload_n_0, ↓w_iload_n_1, ↓w_iadd, ↓w_ior, ↓w_ishl, ↓w_ireturn0, ↓w_invokevirtual_1, stw_0, stw_i, stw_l, stw_r, ofK0, ofK1, ofK2, lst1, lst2, lkill, kont_none, kont_some, Int.reduceToNat, List.length_cons, List.length_nil, Nat.reduceAdd, Nat.reduceLeDiff, Nat.zero_le, true_and, and_true, if_true, if_false, ne_eq, Int.reduceEq, Int.reduceNeg, not_false_eq_true, not_true_eq_false, ↓reduceIte, Int.reduceLT, Int.reduceLE, and_self, or_true, true_or, or_false, false_or, false_and, and_false, ah_t_w, ah_m_w, ah_n_w, lst1_0, List.tail_cons, w32_i, zbd, lst2_0, xt_1a hK, c_126 hK hT k0 (show k < n by omega) n16, c_126 hK hT (show 0 ≤ k + 1 by omega) k1 n16, e]
theorem l_125_29 (hK : XG T h) (hT : XTp tp n h) (hv : TPV tp n) (hn3 : n % 3 = 0) {E : Bool} (hQ : ∀ k tl, wpB (d + 4) 125 54 (some (.inr (.inr 1)) :: some (.inl n) :: some (.inl (zb E)) :: some (.inl k) :: tl) [] h Q) :
    ∀ (j : Nat) (k : Int) tl, 0 ≤ k → k + 3 * j = n → zso tp (T 1072 5) j k = E → wpB (d + 4) 125 29 (some (.inr (.inr 1)) :: some (.inl n) :: some (.inl 1) :: some (.inl k) :: tl) [] h Q := by
  have n16 := hv.1.2
  intro j
  induction j with
  | zero =>
    intro k tl k0 k1 hE
    have hlt : ¬ k < n := by omega
    simp only [zso] at hE
    simp (disch := omega) only [q_125_29, b_125_29, ↓w_aload_n_0, ↓w_iload_n_1, ↓w_iload_n_2, ↓w_iload_n_3, ↓w_iinc_3, ↓w_istore_n_2, ↓w_goto, ↓w_ifCond_eq, ↓w_if_icmp_ge, ↓w_invokevirtual_1, stw_0, stw_i, stw_l, stw_r, ofK0, ofK1, ofK2, lst1, lst2, lkill, kont_none, kont_some, Int.reduceToNat, List.length_cons, List.length_nil, Nat.reduceAdd, Nat.reduceLeDiff, Nat.zero_le, true_and, and_true, if_true, if_false, ne_eq, Int.reduceEq, Int.reduceNeg, not_false_eq_true, not_true_eq_false, ↓reduceIte, Int.reduceLT, Int.reduceLE, and_self, or_true, true_or, or_false, false_or, false_and, and_false, ah_t_w, ah_m_w, ah_n_w, lst1_0, List.tail_cons, w32_i, zbd, lst2_0, xt_1a hK, hlt]
    subst hE
    exact hQ k _
  | succ j ih =>
    intro k tl k0 k1 hE
    have hlt : k < n := by omega
    simp only [zso] at hE
    rw [q_125_29]
    by_cases g : 0 ≤ tp k ∧ tp k < T 1072 5
    · rw [if_pos g] at hE
      simp (disch := omega) only [b_125_29, ↓w_aload_n_0, ↓w_iload_n_1, ↓w_iload_n_2, ↓w_iload_n_3, ↓w_iinc_3, ↓w_istore_n_2, ↓w_goto, ↓w_ifCond_eq, ↓w_if_icmp_ge, ↓w_invokevirtual_1, stw_0, stw_i, stw_l, stw_r, ofK0, ofK1, ofK2, lst1, lst2, lkill, kont_none, kont_some, Int.reduceToNat, List.length_cons, List.length_nil, Nat.reduceAdd, Nat.reduceLeDiff, Nat.zero_le, true_and, and_true, if_true, if_false, ne_eq, Int.reduceEq, Int.reduceNeg, not_false_eq_true, not_true_eq_false, ↓reduceIte, Int.reduceLT, Int.reduceLE, and_self, or_true, true_or, or_false, false_or, false_and, and_false, ah_t_w, ah_m_w, ah_n_w, lst1_0, List.tail_cons, w32_i, zbd, lst2_0, xt_1a hK, hlt, c_126 hK hT k0 hlt n16, fld_1 hK g]
      exact ih (k + 3) _ (by omega) (by omega) hE
    · rw [if_neg g] at hE
      subst hE
      simp (disch := omega) only [b_125_29, ↓w_aload_n_0, ↓w_iload_n_1, ↓w_iload_n_2, ↓w_iload_n_3, ↓w_iinc_3, ↓w_istore_n_2, ↓w_goto, ↓w_ifCond_eq, ↓w_if_icmp_ge, ↓w_invokevirtual_1, stw_0, stw_i, stw_l, stw_r, ofK0, ofK1, ofK2, lst1, lst2, lkill, kont_none, kont_some, Int.reduceToNat, List.length_cons, List.length_nil, Nat.reduceAdd, Nat.reduceLeDiff, Nat.zero_le, true_and, and_true, if_true, if_false, ne_eq, Int.reduceEq, Int.reduceNeg, not_false_eq_true, not_true_eq_false, ↓reduceIte, Int.reduceLT, Int.reduceLE, and_self, or_true, true_or, or_false, false_or, false_and, and_false, ah_t_w, ah_m_w, ah_n_w, lst1_0, List.tail_cons, w32_i, zbd, lst2_0, xt_1a hK, hlt, c_126 hK hT k0 hlt n16, fld_0 hK g]
      by_cases g2 : k + 3 < n
      · simp (disch := omega) only [q_125_29, b_125_29, ↓w_aload_n_0, ↓w_iload_n_1, ↓w_iload_n_2, ↓w_iload_n_3, ↓w_iinc_3, ↓w_istore_n_2, ↓w_goto, ↓w_ifCond_eq, ↓w_if_icmp_ge, ↓w_invokevirtual_1, stw_0, stw_i, stw_l, stw_r, ofK0, ofK1, ofK2, lst1, lst2, lkill, kont_none, kont_some, Int.reduceToNat, List.length_cons, List.length_nil, Nat.reduceAdd, Nat.reduceLeDiff, Nat.zero_le, true_and, and_true, if_true, if_false, ne_eq, Int.reduceEq, Int.reduceNeg, not_false_eq_true, not_true_eq_false, ↓reduceIte, Int.reduceLT, Int.reduceLE, and_self, or_true, true_or, or_false, false_or, false_and, and_false, ah_t_w, ah_m_w, ah_n_w, lst1_0, List.tail_cons, w32_i, zbd, lst2_0, xt_1a hK, g2]
        exact hQ _ _
      · simp (disch := omega) only [q_125_29, b_125_29, ↓w_aload_n_0, ↓w_iload_n_1, ↓w_iload_n_2, ↓w_iload_n_3, ↓w_iinc_3, ↓w_istore_n_2, ↓w_goto, ↓w_ifCond_eq, ↓w_if_icmp_ge, ↓w_invokevirtual_1, stw_0, stw_i, stw_l, stw_r, ofK0, ofK1, ofK2, lst1, lst2, lkill, kont_none, kont_some, Int.reduceToNat, List.length_cons, List.length_nil, Nat.reduceAdd, Nat.reduceLeDiff, Nat.zero_le, true_and, and_true, if_true, if_false, ne_eq, Int.reduceEq, Int.reduceNeg, not_false_eq_true, not_true_eq_false, ↓reduceIte, Int.reduceLT, Int.reduceLE, and_self, or_true, true_or, or_false, false_or, false_and, and_false, ah_t_w, ah_m_w, ah_n_w, lst1_0, List.tail_cons, w32_i, zbd, lst2_0, xt_1a hK, g2]
        exact hQ _ _
theorem l_125_73 (hK : XG T h) (hT : XTp tp n h) (hv : TPV tp n) (e17 : ah_m h 1 17 = rm) (hrm : rm ≤ 16) (hn : 3 * rm = n) {a2 : Int} (hQ : ∀ h', Off (fun r i => r = 116 ∨ r = 117) h h' → (∀ k, 0 ≤ k → k < rm → ah_m h' 116 k = tp (3 * k) ∧ ah_m h' 117 k = 256 * tp (3 * k + 1) + tp (3 * k + 2)) → Q (.inl (some (.inl rm))) h') :
    ∀ (j : Nat) (k : Int) h', 0 ≤ k → k + j = rm → Off (fun r i => r = 116 ∨ r = 117) h h' → (∀ u, 0 ≤ u → u < k → ah_m h' 116 u = tp (3 * u) ∧ ah_m h' 117 u = 256 * tp (3 * u + 1) + tp (3 * u + 2)) → wpB (d + 4) 125 73 (some (.inr (.inr 1)) :: some (.inl n) :: some (.inl a2) :: some (.inl k) :: tl) [] h' Q := by
  have n16 := hv.1.2
  have ok : ∀ r i, (r = 116 ∨ r = 117) → ¬ fix r i ∧ ¬ BRr r ∧ ¬ (r = 1 ∧ i = 0) := fun r i w => by unfold fix BRr isS isV; omega
  intro j
  induction j with
  | zero =>
    intro k h' k0 k1 hO hu
    have hK' := XG_off hK hO ok
    have hlt : ¬ k < rm := by omega
    have e17' : ah_m h' 1 17 = rm := by rw [hO.2 _ _ (by omega)]; exact e17
    simp (disch := omega) only [q_125_73, b_125_73, q_125_115, b_125_115, ↓w_iconst, ↓w_aload_n_0, ↓w_iload_n_3, ↓w_iinc_3, ↓w_iadd, ↓w_imul, ↓w_getfield, ↓w_iastore, ↓w_goto, ↓w_if_icmp_ge, ↓w_ireturn0, ↓w_invokevirtual_1, stw_0, stw_i, stw_l, stw_r, ofK0, ofK1, ofK2, lst1, lst2, lkill, kont_none, kont_some, Int.reduceToNat, List.length_cons, List.length_nil, Nat.reduceAdd, Nat.reduceLeDiff, Nat.zero_le, true_and, and_true, if_true, if_false, ne_eq, Int.reduceEq, Int.reduceNeg, not_false_eq_true, not_true_eq_false, ↓reduceIte, Int.reduceLT, Int.reduceLE, and_self, or_true, true_or, or_false, false_or, false_and, and_false, ah_t_w, ah_m_w, ah_n_w, lst1_0, List.tail_cons, w32_i, zbd, lst2_0, xt_1a hK', xf_1_15 hK', xt_116a hK', xt_116b hK', xf_1_16 hK', xt_117a hK', xt_117b hK', hlt, e17']
    exact hQ h' hO (fun u u0 u1 => hu u u0 (by omega))
  | succ j ih =>
    intro k h' k0 k1 hO hu
    have hK' := XG_off hK hO ok
    have hT' := XT_off hT hO (fun r i w => by omega)
    have hlt : k < rm := by omega
    have k16 : k < 16 := by omega
    have e17' : ah_m h' 1 17 = rm := by rw [hO.2 _ _ (by omega)]; exact e17
    rw [q_125_73]
    have hK2 : XG T (ah_w h' 116 k (tp (3 * k))) := XG_off hK' (W := fun r i => r = 116 ∨ r = 117) (Off_w Off_rfl (Or.inl rfl)) ok
    have hT2 : XTp tp n (ah_w h' 116 k (tp (3 * k))) := XT_off hT' (W := fun r i => r = 116 ∨ r = 117) (Off_w Off_rfl (Or.inl rfl)) (fun r i w => by omega)
    simp (disch := omega) only [b_125_73, ↓w_iconst, ↓w_aload_n_0, ↓w_iload_n_3, ↓w_iinc_3, ↓w_iadd, ↓w_imul, ↓w_getfield, ↓w_iastore, ↓w_goto, ↓w_if_icmp_ge, ↓w_invokevirtual_1, stw_0, stw_i, stw_l, stw_r, ofK0, ofK1, ofK2, lst1, lst2, lkill, kont_none, kont_some, Int.reduceToNat, List.length_cons, List.length_nil, Nat.reduceAdd, Nat.reduceLeDiff, Nat.zero_le, true_and, and_true, if_true, if_false, ne_eq, Int.reduceEq, Int.reduceNeg, not_false_eq_true, not_true_eq_false, ↓reduceIte, Int.reduceLT, Int.reduceLE, and_self, or_true, true_or, or_false, false_or, false_and, and_false, ah_t_w, ah_m_w, ah_n_w, lst1_0, List.tail_cons, w32_i, zbd, lst2_0, xt_1a hK', xf_1_15 hK', xt_116a hK', xt_116b hK', xf_1_16 hK', xt_117a hK', xt_117b hK', hlt, e17', c_126 hK' hT' (show 0 ≤ 3 * k by omega) (show 3 * k < n by omega) n16, c_127 hK2 hT2 hv (show 0 ≤ 3 * k + 1 by omega) (show 3 * k + 1 + 1 < n by omega), k0, k16]
    refine ih (k + 1) _ (by omega) (by omega) (Off_w (Off_w hO (Or.inl rfl)) (Or.inr rfl)) (fun u u0 u1 => ?_)
    by_cases g : u = k
    · subst g
      refine ⟨?_, ?_⟩
      · rw [ah_m_w, if_neg (by omega), ah_m_w, if_pos ⟨rfl, rfl⟩]
      · rw [ah_m_w, if_pos ⟨rfl, rfl⟩, show 3 * u + 1 + 1 = 3 * u + 2 by omega]
    · have := hu u u0 (by omega)
      refine ⟨?_, ?_⟩
      · rw [ah_m_w, if_neg (by omega), ah_m_w, if_neg (by omega)]; exact this.1
      · rw [ah_m_w, if_neg (by omega), ah_m_w, if_neg (by omega)]; exact this.2
theorem c_125 (hK : XG T h) (en : ah_m h 1 2 = n) (hT : XTp tp n h) (hv : TPV tp n)
    (hQ0 : zsee tp n (T 1072 5) = false → Q (.inl (some (.inl (-1)))) (ah_w (ah_w h 1 2 0) 17 1 (w32 (ah_m h 17 1 + 1))))
    (hQ1 : ∀ h', zsee tp n (T 1072 5) = true → XG T h' → Off (fun r i => r = 116 ∨ r = 117 ∨ (r = 1 ∧ (i = 2 ∨ i = 17))) h h' → ah_m h' 1 2 = 0 → XSE tp (n / 3) h' → Q (.inl (some (.inl (n / 3)))) h') : wpC (d + 5) 125 [.inr (.inr 1)] h Q := by
  have n16 := hv.1
  have ok2 : ∀ r i, (r = 1 ∧ (i = 2 ∨ i = 17)) → ¬ fix r i ∧ ¬ BRr r ∧ ¬ (r = 1 ∧ i = 0) := fun r i w => by unfold fix BRr isS isV; omega
  have hO1 : Off (fun r i => r = 1 ∧ (i = 2 ∨ i = 17)) h (ah_w h 1 2 0) := Off_w Off_rfl (by omega)
  have hK1 := XG_off hK hO1 ok2
  have hT1 := XT_off hT hO1 (fun r i w => by omega)
  have t3 : n.tmod 3 = n % 3 := Int.tmod_eq_emod_of_nonneg n16.1
  have d3 : n.tdiv 3 = n / 3 := Int.tdiv_eq_ediv_of_nonneg n16.1
  rw [wpC_B]; refine ⟨⟨Nat.zero_lt_succ _, Nat.le_of_ble_eq_true rfl⟩, ?_⟩; simp only [lent]
  simp (disch := omega) only [q_125_0, b_125_0, ↓w_iconst, ↓w_bipush, ↓w_aload_n_0, ↓w_iload_n_1, ↓w_istore_n_1, ↓w_irem, ↓w_goto, ↓w_ifCond_ne, ↓w_if_icmp_gt, ↓w_ifCond_le, ↓w_invokevirtual_0, stw_0, stw_i, stw_l, stw_r, ofK0, ofK1, ofK2, lst1, lst2, lkill, kont_none, kont_some, Int.reduceToNat, List.length_cons, List.length_nil, Nat.reduceAdd, Nat.reduceLeDiff, Nat.zero_le, true_and, and_true, if_true, if_false, ne_eq, Int.reduceEq, Int.reduceNeg, not_false_eq_true, not_true_eq_false, ↓reduceIte, Int.reduceLT, Int.reduceLE, and_self, or_true, true_or, or_false, false_or, false_and, and_false, ah_t_w, ah_m_w, ah_n_w, lst1_0, List.tail_cons, w32_i, zbd, lst2_0, xt_1a hK, c_89 hK, en]
  generalize hg1 : ah_w h 1 2 0 = g1 at *
  have r17 : ah_m g1 17 1 = ah_m h 17 1 := hO1.2 _ _ (by omega)
  have bad : zsee tp n (T 1072 5) = false → ∀ tl, wpB (d + 4) 125 54 (some (.inr (.inr 1)) :: some (.inl n) :: some (.inl 0) :: tl) [] g1 Q := by
    intro e tl
    have := hQ0 e
    rw [← r17] at this
    simp (disch := omega) only [q_125_54, b_125_54, ↓w_iconst, ↓w_aload_n_0, ↓w_iload_n_2, ↓w_ifCond_ne, ↓w_ireturn0, ↓w_invokevirtual_1, stw_0, stw_i, stw_l, stw_r, ofK0, ofK1, ofK2, lst1, lst2, lkill, kont_none, kont_some, Int.reduceToNat, List.length_cons, List.length_nil, Nat.reduceAdd, Nat.reduceLeDiff, Nat.zero_le, true_and, and_true, if_true, if_false, ne_eq, Int.reduceEq, Int.reduceNeg, not_false_eq_true, not_true_eq_false, ↓reduceIte, Int.reduceLT, Int.reduceLE, and_self, or_true, true_or, or_false, false_or, false_and, and_false, ah_t_w, ah_m_w, ah_n_w, lst1_0, List.tail_cons, w32_i, zbd, lst2_0, xt_1a hK1, c_85 hK1]
    exact this
  by_cases g : 0 < n ∧ n % 3 = 0 ∧ n / 3 ≤ 16
  · have g0 : 0 < n := by omega
    have g1' := g.2.1
    have g2 : ¬ 48 < n := by omega
    have ez : zsee tp n (T 1072 5) = zso tp (T 1072 5) (n / 3).toNat 0 := by unfold zsee; rw [decide_eq_true g, Bool.true_and]
    simp (disch := omega) only [b_125_0, q_125_26, b_125_26, ↓w_iconst, ↓w_bipush, ↓w_aload_n_0, ↓w_iload_n_1, ↓w_istore_n_1, ↓w_istore_n_2, ↓w_istore_n_3, ↓w_irem, ↓w_nop, ↓w_goto, ↓w_ifCond_ne, ↓w_if_icmp_gt, ↓w_ifCond_le, ↓w_invokevirtual_0, stw_0, stw_i, stw_l, stw_r, ofK0, ofK1, ofK2, lst1, lst2, lkill, kont_none, kont_some, Int.reduceToNat, List.length_cons, List.length_nil, Nat.reduceAdd, Nat.reduceLeDiff, Nat.zero_le, true_and, and_true, if_true, if_false, ne_eq, Int.reduceEq, Int.reduceNeg, not_false_eq_true, not_true_eq_false, ↓reduceIte, Int.reduceLT, Int.reduceLE, and_self, or_true, true_or, or_false, false_or, false_and, and_false, ah_t_w, ah_m_w, ah_n_w, lst1_0, List.tail_cons, w32_i, zbd, lst2_0, xt_1a hK1, g0, t3, g1', g2]
    refine l_125_29 hK1 hT1 hv g1' (E := zso tp (T 1072 5) (n / 3).toNat 0) (fun k tl => ?_) (n / 3).toNat 0 _ (by omega) (by omega) rfl
    cases e : zso tp (T 1072 5) (n / 3).toNat 0 with
    | false => exact bad (by rw [ez, e]) _
    | true =>
      have hO2 : Off (fun r i => r = 1 ∧ (i = 2 ∨ i = 17)) g1 (ah_w g1 1 17 (n / 3)) := Off_w Off_rfl (by omega)
      have hK2 := XG_off hK1 hO2 ok2
      have hT2 := XT_off hT1 hO2 (fun r i w => by omega)
      simp (disch := omega) only [q_125_54, b_125_54, q_125_64, b_125_64, ↓w_iconst, ↓w_aload_n_0, ↓w_iload_n_1, ↓w_iload_n_2, ↓w_istore_n_3, ↓w_idiv, ↓w_putfield_0, ↓w_nop, ↓w_ifCond_ne, ↓w_ireturn0, ↓w_invokevirtual_1, stw_0, stw_i, stw_l, stw_r, ofK0, ofK1, ofK2, lst1, lst2, lkill, kont_none, kont_some, Int.reduceToNat, List.length_cons, List.length_nil, Nat.reduceAdd, Nat.reduceLeDiff, Nat.zero_le, true_and, and_true, if_true, if_false, ne_eq, Int.reduceEq, Int.reduceNeg, not_false_eq_true, not_true_eq_false, ↓reduceIte, Int.reduceLT, Int.reduceLE, and_self, or_true, true_or, or_false, false_or, false_and, and_false, ah_t_w, ah_m_w, ah_n_w, lst1_0, List.tail_cons, w32_i, zbd, lst2_0, xt_1a hK1, zb_t, d3]
      refine l_125_73 (tp := tp) (n := n) (rm := n / 3) hK2 hT2 hv (by rw [ah_m_w, if_pos ⟨rfl, rfl⟩]) g.2.2 (by omega) (fun h3 hO3 e3 => ?_) (n / 3).toNat 0 _ (by omega) (by omega) Off_rfl (fun u u0 u1 => by omega)
      have hO4 : Off (fun r i => r = 116 ∨ r = 117 ∨ (r = 1 ∧ (i = 2 ∨ i = 17))) h h3 := Off_tr (Off_mono (fun r i w => Or.inr (Or.inr w)) (Off_tr hO1 hO2)) (Off_mono (fun r i w => by omega) hO3)
      refine hQ1 h3 (by rw [ez, e]) (XG_off hK2 hO3 (fun r i w => by unfold fix BRr isS isV; omega)) hO4 ?_ ⟨?_, e3⟩
      · rw [hO3.2 _ _ (by omega), ah_m_w, if_neg (by omega), ← hg1, ah_m_w, if_pos ⟨rfl, rfl⟩]
      · rw [hO3.2 _ _ (by omega), ah_m_w, if_pos ⟨rfl, rfl⟩]
  · have ez : zsee tp n (T 1072 5) = false := by unfold zsee; rw [decide_eq_false g, Bool.false_and]
    have bad := bad ez
    have fin : ∀ tl, wpB (d + 4) 125 26 (some (.inr (.inr 1)) :: some (.inl n) :: tl) [.inl 0] g1 Q := by
      intro tl
      by_cases q : 0 < n
      · simp (disch := omega) only [q_125_26, b_125_26, q_125_29, b_125_29, ↓w_iconst, ↓w_aload_n_0, ↓w_iload_n_1, ↓w_iload_n_2, ↓w_iload_n_3, ↓w_iinc_3, ↓w_istore_n_2, ↓w_istore_n_3, ↓w_nop, ↓w_goto, ↓w_ifCond_eq, ↓w_if_icmp_ge, ↓w_invokevirtual_1, stw_0, stw_i, stw_l, stw_r, ofK0, ofK1, ofK2, lst1, lst2, lkill, kont_none, kont_some, Int.reduceToNat, List.length_cons, List.length_nil, Nat.reduceAdd, Nat.reduceLeDiff, Nat.zero_le, true_and, and_true, if_true, if_false, ne_eq, Int.reduceEq, Int.reduceNeg, not_false_eq_true, not_true_eq_false, ↓reduceIte, Int.reduceLT, Int.reduceLE, and_self, or_true, true_or, or_false, false_or, false_and, and_false, ah_t_w, ah_m_w, ah_n_w, lst1_0, List.tail_cons, w32_i, zbd, lst2_0, xt_1a hK1, q]
        exact bad _
      · simp (disch := omega) only [q_125_26, b_125_26, q_125_29, b_125_29, ↓w_iconst, ↓w_aload_n_0, ↓w_iload_n_1, ↓w_iload_n_2, ↓w_iload_n_3, ↓w_iinc_3, ↓w_istore_n_2, ↓w_istore_n_3, ↓w_nop, ↓w_goto, ↓w_ifCond_eq, ↓w_if_icmp_ge, ↓w_invokevirtual_1, stw_0, stw_i, stw_l, stw_r, ofK0, ofK1, ofK2, lst1, lst2, lkill, kont_none, kont_some, Int.reduceToNat, List.length_cons, List.length_nil, Nat.reduceAdd, Nat.reduceLeDiff, Nat.zero_le, true_and, and_true, if_true, if_false, ne_eq, Int.reduceEq, Int.reduceNeg, not_false_eq_true, not_true_eq_false, ↓reduceIte, Int.reduceLT, Int.reduceLE, and_self, or_true, true_or, or_false, false_or, false_and, and_false, ah_t_w, ah_m_w, ah_n_w, lst1_0, List.tail_cons, w32_i, zbd, lst2_0, xt_1a hK1, q]
        exact bad _
    by_cases g0 : ¬ 0 < n
    · simp (disch := omega) only [b_125_0, q_125_25, b_125_25, ↓w_iconst, ↓w_bipush, ↓w_aload_n_0, ↓w_iload_n_1, ↓w_istore_n_1, ↓w_irem, ↓w_nop, ↓w_goto, ↓w_ifCond_ne, ↓w_if_icmp_gt, ↓w_ifCond_le, ↓w_invokevirtual_0, stw_0, stw_i, stw_l, stw_r, ofK0, ofK1, ofK2, lst1, lst2, lkill, kont_none, kont_some, Int.reduceToNat, List.length_cons, List.length_nil, Nat.reduceAdd, Nat.reduceLeDiff, Nat.zero_le, true_and, and_true, if_true, if_false, ne_eq, Int.reduceEq, Int.reduceNeg, not_false_eq_true, not_true_eq_false, ↓reduceIte, Int.reduceLT, Int.reduceLE, and_self, or_true, true_or, or_false, false_or, false_and, and_false, ah_t_w, ah_m_w, ah_n_w, lst1_0, List.tail_cons, w32_i, zbd, lst2_0, xt_1a hK1, g0]
      exact fin _
    · have g0 : 0 < n := by omega
      by_cases g1' : n % 3 = 0
      · have g2 : 48 < n := by omega
        simp (disch := omega) only [b_125_0, q_125_25, b_125_25, ↓w_iconst, ↓w_bipush, ↓w_aload_n_0, ↓w_iload_n_1, ↓w_istore_n_1, ↓w_irem, ↓w_nop, ↓w_goto, ↓w_ifCond_ne, ↓w_if_icmp_gt, ↓w_ifCond_le, ↓w_invokevirtual_0, stw_0, stw_i, stw_l, stw_r, ofK0, ofK1, ofK2, lst1, lst2, lkill, kont_none, kont_some, Int.reduceToNat, List.length_cons, List.length_nil, Nat.reduceAdd, Nat.reduceLeDiff, Nat.zero_le, true_and, and_true, if_true, if_false, ne_eq, Int.reduceEq, Int.reduceNeg, not_false_eq_true, not_true_eq_false, ↓reduceIte, Int.reduceLT, Int.reduceLE, and_self, or_true, true_or, or_false, false_or, false_and, and_false, ah_t_w, ah_m_w, ah_n_w, lst1_0, List.tail_cons, w32_i, zbd, lst2_0, xt_1a hK1, g0, t3, g1', g2]
        exact fin _
      · simp (disch := omega) only [b_125_0, q_125_25, b_125_25, ↓w_iconst, ↓w_bipush, ↓w_aload_n_0, ↓w_iload_n_1, ↓w_istore_n_1, ↓w_irem, ↓w_nop, ↓w_goto, ↓w_ifCond_ne, ↓w_if_icmp_gt, ↓w_ifCond_le, ↓w_invokevirtual_0, stw_0, stw_i, stw_l, stw_r, ofK0, ofK1, ofK2, lst1, lst2, lkill, kont_none, kont_some, Int.reduceToNat, List.length_cons, List.length_nil, Nat.reduceAdd, Nat.reduceLeDiff, Nat.zero_le, true_and, and_true, if_true, if_false, ne_eq, Int.reduceEq, Int.reduceNeg, not_false_eq_true, not_true_eq_false, ↓reduceIte, Int.reduceLT, Int.reduceLE, and_self, or_true, true_or, or_false, false_or, false_and, and_false, ah_t_w, ah_m_w, ah_n_w, lst1_0, List.tail_cons, w32_i, zbd, lst2_0, xt_1a hK1, g0, t3, g1']
        exact fin _
/-! as seen -/
theorem l_129 (hK : XG T h) (hS : XS T nw 70 h) (hse : XSE sr rm h) (hSN : SNV sr rm) (hf : ∀ k, 0 ≤ k → k < rm → sr (3 * k) < T 1072 5) {a1 : Int} : ∀ (j : Nat) (k : Int), 0 ≤ k → k + j = rm → wpB d 129 18 [some (.inr (.inr 1)), some (.inl a1), some (.inl k)] [] h (fun o h1 => o = .inl (some (.inl (zb (zas nw sr j k)))) ∧ h1 = h) := by
  have n6 := hK.2.2.2.2.1
  have e17 := hse.1
  intro j
  induction j with
  | zero =>
    intro k k0 k1
    have hlt : ¬ k < rm := by omega
    simp (disch := omega) only [q_129_18, b_129_18, q_129_57, b_129_57, ↓w_iconst, ↓w_aload_n_0, ↓w_iload_n_2, ↓w_getfield, ↓w_iaload, ↓w_if_icmp_eq, ↓w_if_icmp_ge, ↓w_ireturn1, stw_0, stw_i, stw_l, stw_r, ofK0, ofK1, ofK2, lst1, lst2, lkill, kont_none, kont_some, Int.reduceToNat, List.length_cons, List.length_nil, Nat.reduceAdd, Nat.reduceLeDiff, Nat.zero_le, true_and, and_true, if_true, if_false, ne_eq, Int.reduceEq, Int.reduceNeg, not_false_eq_true, not_true_eq_false, ↓reduceIte, Int.reduceLT, Int.reduceLE, and_self, or_true, true_or, or_false, false_or, false_and, and_false, ah_t_w, ah_m_w, ah_n_w, lst1_0, List.tail_cons, w32_i, zbd, lst2_0, xt_1a hK, xf_1_13 hK, xf_1_15 hK, xt_116a hK, xt_116b hK, xf_1_16 hK, xt_117a hK, xt_117b hK, s_t hK hS, s_5 hK hS, s_5a hK hS, s_5b hK hS, hlt, e17, zas, zb_t]
  | succ j ih =>
    intro k k0 k1
    have hlt : k < rm := by omega
    have k16 : k < 16 := by have := hSN.1; omega
    have es := hse.2 k k0 hlt
    have e1 := es.1; have e2 := es.2
    have hb := hSN.2.1 k k0 hlt
    have b0 := hb.1
    have b1 : sr (3 * k) < 6 := hb.2
    have eb := sb hS b0 (hf k k0 hlt)
    have ih := ih (k + 1) (by omega) (by omega)
    rw [q_129_18]
    simp only [zas]
    by_cases g : nw (18 + sr (3 * k)) = 256 * sr (3 * k + 1) + sr (3 * k + 2)
    · rw [if_pos g]
      simp (disch := omega) only [b_129_18, q_129_51, b_129_51, ↓w_iconst, ↓w_aload_n_0, ↓w_iload_n_2, ↓w_iinc_2, ↓w_getfield, ↓w_iaload, ↓w_goto, ↓w_if_icmp_eq, ↓w_if_icmp_ge, ↓w_ireturn1, stw_0, stw_i, stw_l, stw_r, ofK0, ofK1, ofK2, lst1, lst2, lkill, kont_none, kont_some, Int.reduceToNat, List.length_cons, List.length_nil, Nat.reduceAdd, Nat.reduceLeDiff, Nat.zero_le, true_and, and_true, if_true, if_false, ne_eq, Int.reduceEq, Int.reduceNeg, not_false_eq_true, not_true_eq_false, ↓reduceIte, Int.reduceLT, Int.reduceLE, and_self, or_true, true_or, or_false, false_or, false_and, and_false, ah_t_w, ah_m_w, ah_n_w, lst1_0, List.tail_cons, w32_i, zbd, lst2_0, xt_1a hK, xf_1_13 hK, xf_1_15 hK, xt_116a hK, xt_116b hK, xf_1_16 hK, xt_117a hK, xt_117b hK, s_t hK hS, s_5 hK hS, s_5a hK hS, s_5b hK hS, hlt, e17, e1, e2, k0, k16, b0, b1, eb, eq_true g]
      exact ih
    · rw [if_neg g]
      simp (disch := omega) only [b_129_18, ↓w_iconst, ↓w_aload_n_0, ↓w_iload_n_2, ↓w_getfield, ↓w_iaload, ↓w_if_icmp_eq, ↓w_if_icmp_ge, ↓w_ireturn1, stw_0, stw_i, stw_l, stw_r, ofK0, ofK1, ofK2, lst1, lst2, lkill, kont_none, kont_some, Int.reduceToNat, List.length_cons, List.length_nil, Nat.reduceAdd, Nat.reduceLeDiff, Nat.zero_le, true_and, and_true, if_true, if_false, ne_eq, Int.reduceEq, Int.reduceNeg, not_false_eq_true, not_true_eq_false, ↓reduceIte, Int.reduceLT, Int.reduceLE, and_self, or_true, true_or, or_false, false_or, false_and, and_false, ah_t_w, ah_m_w, ah_n_w, lst1_0, List.tail_cons, w32_i, zbd, lst2_0, xt_1a hK, xf_1_13 hK, xf_1_15 hK, xt_116a hK, xt_116b hK, xf_1_16 hK, xt_117a hK, xt_117b hK, s_t hK hS, s_5 hK hS, s_5a hK hS, s_5b hK hS, hlt, e17, e1, e2, k0, k16, b0, b1, eb, eq_false g, zb_f]
theorem zas_c (hE : NE nw nw') (hb : ∀ k, 0 ≤ k → k < rm → 0 ≤ sr (3 * k) ∧ sr (3 * k) < 6) : ∀ (j : Nat) (k : Int), 0 ≤ k → k + j = rm → zas nw' sr j k = zas nw sr j k := by
  intro j
  induction j with
  | zero => intro k _ _; rfl
  | succ j ih =>
    intro k k0 k1
    have := hb k k0 (by omega)
    simp only [zas]
    rw [hE (18 + sr (3 * k)) (by omega) (by omega), ih (k + 1) (by omega) (by omega)]
theorem XSE_off (hse : XSE sr rm h) (hO : Off W h h') (hW : ∀ r i, W r i → r ≠ 116 ∧ r ≠ 117 ∧ ¬ (r = 1 ∧ i = 17)) : XSE sr rm h' := by
  refine ⟨by rw [hO.2 _ _ (fun w => (hW _ _ w).2.2 ⟨rfl, rfl⟩)]; exact hse.1, fun k a b => ?_⟩
  rw [hO.2 _ _ (fun w => (hW _ _ w).1 rfl), hO.2 _ _ (fun w => (hW _ _ w).2.1 rfl)]
  exact hse.2 k a b
theorem c_129 (hA : XA T nw h) (hX : NX T nw) (hF : FV nw) (hd : nw 0 < 5000) (hse : XSE sr rm h) (hSN : SNV sr rm) (hf : ∀ k, 0 ≤ k → k < rm → sr (3 * k) < T 1072 5) (k0 : 0 ≤ k) (k1 : k < zall T nw)
    (hQ : ∀ h', XA T nw h' → Off Wth h h' → Q (.inl (some (.inl (zb (zplp T nw sr rm k))))) h') : wpC (d + 44) 129 [.inr (.inr 1), .inl k] h Q := by
  have hK := hA.1
  have n8 := hK.2.2.2.1; have n6 := hK.2.2.2.2.1
  have h40 := hF.2.2.2
  have tS := sz_t hK is70
  have e1 := zpc_1 k0 k1
  have hcp : zcpk T nw (zpc T nw k 0 0) := zpc_cp
  have hv := zcpk_v (NX_T hX) hcp
  rw [wpC_B]; refine ⟨⟨Nat.zero_lt_succ _, Nat.le_of_ble_eq_true rfl⟩, ?_⟩; simp only [lent]
  simp (disch := omega) only [q_129_0, b_129_0, ↓w_iconst, ↓w_aload_n_0, ↓w_iload_n_1, ↓w_istore_n_2, ↓w_pop_i, ↓w_pop_a, ↓w_getfield, ↓w_nop, ↓w_invokevirtual_1, stw_0, stw_i, stw_l, stw_r, ofK0, ofK1, ofK2, lst1, lst2, lkill, kont_none, kont_some, Int.reduceToNat, List.length_cons, List.length_nil, Nat.reduceAdd, Nat.reduceLeDiff, Nat.zero_le, true_and, and_true, if_true, if_false, ne_eq, Int.reduceEq, Int.reduceNeg, not_false_eq_true, not_true_eq_false, ↓reduceIte, Int.reduceLT, Int.reduceLE, and_self, or_true, true_or, or_false, false_or, false_and, and_false, ah_t_w, ah_m_w, ah_n_w, lst1_0, List.tail_cons, w32_i, zbd, lst2_0, xt_1a hK, xf_1_12 hK, xf_1_13 hK, tS]
  refine cpy (d := d + 42) hA hF (fun h2 hA2 hS2 hO2 => ?_)
  have tS2 := sz_t hA2.1 is70
  simp (disch := omega) only [b_129_0, ↓w_iconst, ↓w_aload_n_0, ↓w_iload_n_1, ↓w_istore_n_2, ↓w_pop_i, ↓w_pop_a, ↓w_getfield, ↓w_nop, ↓w_invokevirtual_1, stw_0, stw_i, stw_l, stw_r, ofK0, ofK1, ofK2, lst1, lst2, lkill, kont_none, kont_some, Int.reduceToNat, List.length_cons, List.length_nil, Nat.reduceAdd, Nat.reduceLeDiff, Nat.zero_le, true_and, and_true, if_true, if_false, ne_eq, Int.reduceEq, Int.reduceNeg, not_false_eq_true, not_true_eq_false, ↓reduceIte, Int.reduceLT, Int.reduceLE, and_self, or_true, true_or, or_false, false_or, false_and, and_false, ah_t_w, ah_m_w, ah_n_w, lst1_0, List.tail_cons, w32_i, zbd, lst2_0, tS2]
  rw [← e1]
  refine c_230 (d := d) hA2.1 hS2 hX hA2.2.2.1 hF hd hcp (fun h3 hK3 hS3 hH3 hO3 _ => ?_)
  rw [e1]
  have hO3'' : Off Wth h2 h3 := Off_mono (fun r i w => Wth_dy r i (Or.inl w)) hO3
  have hO3' := Off_tr (Off_mono Wth_cp hO2) hO3''
  have hA3 := XA_th hA h40 hO3' hS3.2.2.2.2.2.2
  have hse3 := XSE_off hse hO3' (fun r i w => by have := w.1; omega)
  simp (disch := omega) only [b_129_0, ↓w_iconst, ↓w_aload_n_0, ↓w_iload_n_1, ↓w_istore_n_2, ↓w_pop_i, ↓w_pop_a, ↓w_getfield, ↓w_nop, ↓w_invokevirtual_1, stw_0, stw_i, stw_l, stw_r, ofK0, ofK1, ofK2, lst1, lst2, lkill, kont_none, kont_some, Int.reduceToNat, List.length_cons, List.length_nil, Nat.reduceAdd, Nat.reduceLeDiff, Nat.zero_le, true_and, and_true, if_true, if_false, ne_eq, Int.reduceEq, Int.reduceNeg, not_false_eq_true, not_true_eq_false, ↓reduceIte, Int.reduceLT, Int.reduceLE, and_self, or_true, true_or, or_false, false_or, false_and, and_false, ah_t_w, ah_m_w, ah_n_w, lst1_0, List.tail_cons, w32_i, zbd, lst2_0]
  refine wpB_mono (l_129 hK3 hS3 hse3 hSN hf rm.toNat 0 (by omega) (by have := hSN.1; omega)) (fun o h4 q => ?_)
  rw [q.1, q.2]
  have hE := NE_dy n8 n6 (NE_rfl (nw := nw)) hF.2.2.1 hX hv
  have := hQ h3 hA3 hO3'
  unfold zplp at this
  rw [← zas_c hE (rm := rm) hSN.2.1 rm.toNat 0 (by omega) (by have := hSN.1; omega)] at this
  exact this
theorem l_128 (hX : NX T nw) (hF : FV nw) (hd : nw 0 < 5000) (hSN : SNV sr rm) (hf : ∀ k, 0 ≤ k → k < rm → sr (3 * k) < T 1072 5) (hlen : (zall T nw : Int) ≤ 200) {R : Int × Int × Int} (hQ : ∀ h', XA T nw h' → Off Wth h h' → Q (.inl (some (.inl (if w = 0 then R.1 else if w = 1 then R.2.1 else R.2.2)))) h') :
    ∀ (j : Nat) (k : Int) (b : Int × Int × Int) h', 0 ≤ k → k + j = zall T nw → XA T nw h' → XSE sr rm h' → Off Wth h h' → (0 ≤ b.1 ∧ b.1 ≤ k) → (b.1 = 0 ↔ b.2.1 = -1) → zpf (zplp T nw sr rm) j k b = R → wpB (d + 44) 128 27 [some (.inr (.inr 1)), some (.inl w), some (.inl b.1), some (.inl b.2.1), some (.inl b.2.2), some (.inl (zall T nw)), some (.inl k)] [] h' Q := by
  intro j
  induction j with
  | zero =>
    intro k b h' k0 k1 hA hse hO hb hi hR
    have hlt : ¬ k < (zall T nw : Int) := by omega
    simp only [zpf] at hR
    subst hR
    have hQ := hQ h' hA hO
    by_cases w0 : w = 0
    · rw [if_pos w0] at hQ
      simp (disch := omega) only [q_128_27, b_128_27, q_128_70, b_128_70, q_128_89, b_128_89, ↓w_aload_n_0, ↓w_iload_n_1, ↓w_iload_n_2, ↓w_iload_5, ↓w_iload_6, ↓w_goto, ↓w_ifCond_ne, ↓w_if_icmp_ge, ↓w_ireturn0, ↓w_invokevirtual_1, stw_0, stw_i, stw_l, stw_r, ofK0, ofK1, ofK2, lst1, lst2, lkill, kont_none, kont_some, Int.reduceToNat, List.length_cons, List.length_nil, Nat.reduceAdd, Nat.reduceLeDiff, Nat.zero_le, true_and, and_true, if_true, if_false, ne_eq, Int.reduceEq, Int.reduceNeg, not_false_eq_true, not_true_eq_false, ↓reduceIte, Int.reduceLT, Int.reduceLE, and_self, or_true, true_or, or_false, false_or, false_and, and_false, ah_t_w, ah_m_w, ah_n_w, lst1_0, List.tail_cons, w32_i, zbd, lst2_0, hlt, w0]
      exact hQ
    · rw [if_neg w0] at hQ
      by_cases w1 : w = 1
      · rw [if_pos w1] at hQ
        simp (disch := omega) only [q_128_27, b_128_27, q_128_70, b_128_70, q_128_78, b_128_78, q_128_89, b_128_89, ↓w_iconst, ↓w_aload_n_0, ↓w_iload_n_1, ↓w_iload_n_2, ↓w_iload_n_3, ↓w_iload_5, ↓w_iload_6, ↓w_goto, ↓w_ifCond_ne, ↓w_if_icmp_ne, ↓w_if_icmp_ge, ↓w_ireturn0, ↓w_invokevirtual_1, stw_0, stw_i, stw_l, stw_r, ofK0, ofK1, ofK2, lst1, lst2, lkill, kont_none, kont_some, Int.reduceToNat, List.length_cons, List.length_nil, Nat.reduceAdd, Nat.reduceLeDiff, Nat.zero_le, true_and, and_true, if_true, if_false, ne_eq, Int.reduceEq, Int.reduceNeg, not_false_eq_true, not_true_eq_false, ↓reduceIte, Int.reduceLT, Int.reduceLE, and_self, or_true, true_or, or_false, false_or, false_and, and_false, ah_t_w, ah_m_w, ah_n_w, lst1_0, List.tail_cons, w32_i, zbd, lst2_0, hlt, w1]
        exact hQ
      · rw [if_neg w1] at hQ
        simp (disch := omega) only [q_128_27, b_128_27, q_128_70, b_128_70, q_128_78, b_128_78, q_128_87, b_128_87, q_128_89, b_128_89, ↓w_iconst, ↓w_aload_n_0, ↓w_iload_n_1, ↓w_iload_n_2, ↓w_iload_n_3, ↓w_iload_4, ↓w_iload_5, ↓w_iload_6, ↓w_nop, ↓w_goto, ↓w_ifCond_ne, ↓w_if_icmp_ne, ↓w_if_icmp_ge, ↓w_ireturn0, ↓w_invokevirtual_1, stw_0, stw_i, stw_l, stw_r, ofK0, ofK1, ofK2, lst1, lst2, lkill, kont_none, kont_some, Int.reduceToNat, List.length_cons, List.length_nil, Nat.reduceAdd, Nat.reduceLeDiff, Nat.zero_le, true_and, and_true, if_true, if_false, ne_eq, Int.reduceEq, Int.reduceNeg, not_false_eq_true, not_true_eq_false, ↓reduceIte, Int.reduceLT, Int.reduceLE, and_self, or_true, true_or, or_false, false_or, false_and, and_false, ah_t_w, ah_m_w, ah_n_w, lst1_0, List.tail_cons, w32_i, zbd, lst2_0, hlt, w0, w1]
        exact hQ
  | succ j ih =>
    intro k b h' k0 k1 hA hse hO hb hi hR
    have hK := hA.1
    have hlt : k < (zall T nw : Int) := by omega
    simp only [zpf] at hR
    rw [q_128_27]
    simp (disch := omega) only [b_128_27, ↓w_aload_n_0, ↓w_iload_5, ↓w_iload_6, ↓w_goto, ↓w_ifCond_ne, ↓w_if_icmp_ge, ↓w_invokevirtual_1, stw_0, stw_i, stw_l, stw_r, ofK0, ofK1, ofK2, lst1, lst2, lkill, kont_none, kont_some, Int.reduceToNat, List.length_cons, List.length_nil, Nat.reduceAdd, Nat.reduceLeDiff, Nat.zero_le, true_and, and_true, if_true, if_false, ne_eq, Int.reduceEq, Int.reduceNeg, not_false_eq_true, not_true_eq_false, ↓reduceIte, Int.reduceLT, Int.reduceLE, and_self, or_true, true_or, or_false, false_or, false_and, and_false, ah_t_w, ah_m_w, ah_n_w, lst1_0, List.tail_cons, w32_i, zbd, lst2_0, xt_1a hK, hlt, xt_1a hK]
    refine c_129 (d := d) hA hX hF hd hse hSN hf k0 hlt (fun h1 hA1 hO1 => ?_)
    have hse1 := XSE_off hse hO1 (fun r i w => by have := w.1; omega)
    have hO1' := Off_tr hO hO1
    cases e : zplp T nw sr rm k with
    | false =>
      rw [e, if_neg (by decide)] at hR
      simp (disch := omega) only [b_128_27, q_128_64, b_128_64, ↓w_aload_n_0, ↓w_iload_5, ↓w_iload_6, ↓w_iinc_6, ↓w_goto, ↓w_ifCond_ne, ↓w_if_icmp_ge, ↓w_invokevirtual_1, stw_0, stw_i, stw_l, stw_r, ofK0, ofK1, ofK2, lst1, lst2, lkill, kont_none, kont_some, Int.reduceToNat, List.length_cons, List.length_nil, Nat.reduceAdd, Nat.reduceLeDiff, Nat.zero_le, true_and, and_true, if_true, if_false, ne_eq, Int.reduceEq, Int.reduceNeg, not_false_eq_true, not_true_eq_false, ↓reduceIte, Int.reduceLT, Int.reduceLE, and_self, or_true, true_or, or_false, false_or, false_and, and_false, ah_t_w, ah_m_w, ah_n_w, lst1_0, List.tail_cons, w32_i, zbd, lst2_0, zb_f]
      exact ih (k + 1) b h1 (by omega) (by omega) hA1 hse1 hO1' (by omega) hi hR
    | true =>
      rw [e, if_pos rfl] at hR
      by_cases g : b.1 = 0
      · have g2 := hi.1 g
        rw [if_pos g2] at hR
        have ih := ih (k + 1) (b.1 + 1, k, k) h1 (by omega) (by omega) hA1 hse1 hO1' (by simp only []; omega) (by simp only []; omega) hR
        simp only [g] at ih
        simp (disch := omega) only [b_128_27, q_128_46, b_128_46, q_128_56, b_128_56, q_128_64, b_128_64, ↓w_aload_n_0, ↓w_iload_n_2, ↓w_iinc_2, ↓w_iload_5, ↓w_iload_6, ↓w_iinc_6, ↓w_istore, ↓w_istore_n_3, ↓w_nop, ↓w_goto, ↓w_ifCond_ne, ↓w_if_icmp_ge, ↓w_invokevirtual_1, stw_0, stw_i, stw_l, stw_r, ofK0, ofK1, ofK2, lst1, lst2, lkill, kont_none, kont_some, Int.reduceToNat, List.length_cons, List.length_nil, Nat.reduceAdd, Nat.reduceLeDiff, Nat.zero_le, true_and, and_true, if_true, if_false, ne_eq, Int.reduceEq, Int.reduceNeg, not_false_eq_true, not_true_eq_false, ↓reduceIte, Int.reduceLT, Int.reduceLE, and_self, or_true, true_or, or_false, false_or, false_and, and_false, ah_t_w, ah_m_w, ah_n_w, lst1_0, List.tail_cons, w32_i, zbd, lst2_0, zb_t, g]
        exact ih
      · have g2 : ¬ b.2.1 = -1 := fun q => g (hi.2 q)
        rw [if_neg g2] at hR
        have ih := ih (k + 1) (b.1 + 1, b.2.1, k) h1 (by omega) (by omega) hA1 hse1 hO1' (by simp only []; omega) (by simp only []; omega) hR
        simp (disch := omega) only [b_128_27, q_128_46, b_128_46, q_128_55, b_128_55, q_128_56, b_128_56, q_128_64, b_128_64, ↓w_aload_n_0, ↓w_iload_n_2, ↓w_iinc_2, ↓w_iload_n_3, ↓w_iload_5, ↓w_iload_6, ↓w_iinc_6, ↓w_istore, ↓w_istore_n_3, ↓w_nop, ↓w_goto, ↓w_ifCond_ne, ↓w_if_icmp_ge, ↓w_invokevirtual_1, stw_0, stw_i, stw_l, stw_r, ofK0, ofK1, ofK2, lst1, lst2, lkill, kont_none, kont_some, Int.reduceToNat, List.length_cons, List.length_nil, Nat.reduceAdd, Nat.reduceLeDiff, Nat.zero_le, true_and, and_true, if_true, if_false, ne_eq, Int.reduceEq, Int.reduceNeg, not_false_eq_true, not_true_eq_false, ↓reduceIte, Int.reduceLT, Int.reduceLE, and_self, or_true, true_or, or_false, false_or, false_and, and_false, ah_t_w, ah_m_w, ah_n_w, lst1_0, List.tail_cons, w32_i, zbd, lst2_0, zb_t, g]
        exact ih
theorem c_128 (hA : XA T nw h) (hX : NX T nw) (hF : FV nw) (hd : nw 0 < 5000) (hse : XSE sr rm h) (hSN : SNV sr rm) (hf : ∀ k, 0 ≤ k → k < rm → sr (3 * k) < T 1072 5)
    (hQ : ∀ h', XA T nw h' → Off Wth h h' → Q (.inl (some (.inl (if 0 ≤ w ∧ w ≤ 2 then (if w = 0 then (zplay T nw sr (T 1074 4) rm).1 else if w = 1 then (zplay T nw sr (T 1074 4) rm).2.1 else (zplay T nw sr (T 1074 4) rm).2.2) else -1)))) h') : wpC (d + 45) 128 [.inr (.inr 1), .inl w] h Q := by
  have hK := hA.1
  have h40 := hF.2.2.2
  have hV : isV 22 := by unfold isV; omega
  have el := @zav_len T nw
  rw [wpC_B]; refine ⟨⟨Nat.zero_lt_succ _, Nat.le_of_ble_eq_true rfl⟩, ?_⟩; simp only [lent]
  by_cases gw : 0 ≤ w ∧ w ≤ 2
  · rw [if_pos gw] at hQ
    simp (disch := omega) only [q_128_0, b_128_0, q_128_11, b_128_11, ↓w_iconst, ↓w_aload_n_0, ↓w_iload_n_1, ↓w_istore, ↓w_istore_n_2, ↓w_istore_n_3, ↓w_nop, ↓w_ifCond_ne, ↓w_ireturn0, ↓w_invokevirtual_0, ↓w_invokestatic_3, stw_0, stw_i, stw_l, stw_r, ofK0, ofK1, ofK2, lst1, lst2, lkill, kont_none, kont_some, Int.reduceToNat, List.length_cons, List.length_nil, Nat.reduceAdd, Nat.reduceLeDiff, Nat.zero_le, true_and, and_true, if_true, if_false, ne_eq, Int.reduceEq, Int.reduceNeg, not_false_eq_true, not_true_eq_false, ↓reduceIte, Int.reduceLT, Int.reduceLE, and_self, or_true, true_or, or_false, false_or, false_and, and_false, ah_t_w, ah_m_w, ah_n_w, lst1_0, List.tail_cons, w32_i, zbd, lst2_0, xt_1a hK, is_1 gw]
    refine c_108 (d := d + 36) hA hX h40 (fun h1 hA1 hx hlen hO1 => ?_)
    have hO1' := Off_mono (Wth_mv hV) hO1
    have hse1 := XSE_off hse hO1' (fun r i w => by have := w.1; omega)
    have ez : zplay T nw sr (T 1074 4) rm = zpf (zplp T nw sr rm) (zall T nw) 0 (0, -1, -1) := by
      unfold zplay
      by_cases g : T 1074 4 = 0
      · rw [if_pos g, ← el, zav_0 g]; rfl
      · rw [if_neg g]
    rw [ez] at hQ
    simp (disch := omega) only [b_128_11, ↓w_iconst, ↓w_aload_n_0, ↓w_istore, ↓w_istore_n_2, ↓w_istore_n_3, ↓w_nop, ↓w_invokevirtual_0, stw_0, stw_i, stw_l, stw_r, ofK0, ofK1, ofK2, lst1, lst2, lkill, kont_none, kont_some, Int.reduceToNat, List.length_cons, List.length_nil, Nat.reduceAdd, Nat.reduceLeDiff, Nat.zero_le, true_and, and_true, if_true, if_false, ne_eq, Int.reduceEq, Int.reduceNeg, not_false_eq_true, not_true_eq_false, ↓reduceIte, Int.reduceLT, Int.reduceLE, and_self, or_true, true_or, or_false, false_or, false_and, and_false, ah_t_w, ah_m_w, ah_n_w, lst1_0, List.tail_cons, w32_i, zbd, lst2_0]
    exact l_128 (d := d) hX hF hd hSN hf (by rw [← el]; exact hlen) hQ (zall T nw) 0 (0, -1, -1) h1 (by omega) (by omega) hA1 hse1 hO1' (by simp) (by simp) rfl
  · rw [if_neg gw] at hQ
    simp (disch := omega) only [q_128_0, b_128_0, ↓w_iconst, ↓w_iload_n_1, ↓w_ifCond_ne, ↓w_ireturn0, ↓w_invokestatic_3, stw_0, stw_i, stw_l, stw_r, ofK0, ofK1, ofK2, lst1, lst2, lkill, kont_none, kont_some, Int.reduceToNat, List.length_cons, List.length_nil, Nat.reduceAdd, Nat.reduceLeDiff, Nat.zero_le, true_and, and_true, if_true, if_false, ne_eq, Int.reduceEq, Int.reduceNeg, not_false_eq_true, not_true_eq_false, ↓reduceIte, Int.reduceLT, Int.reduceLE, and_self, or_true, true_or, or_false, false_or, false_and, and_false, ah_t_w, ah_m_w, ah_n_w, lst1_0, List.tail_cons, w32_i, zbd, lst2_0, is_0 gw]
    exact hQ h hA Off_rfl
end Z8
