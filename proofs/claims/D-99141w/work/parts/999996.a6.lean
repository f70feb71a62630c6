/-! ===== X: on ===== -/
section A6
variable {W : Int → Int → Prop} {d : Nat} {h h' h1 h0 : AH} {Q : QQ} {x y z m k s w a b v n p r o i f D0 D1 rm fr R : Int} {S T T' : Int → Int → Int} {t nw nw' pt of tp sr hm g : Int → Int} {tl : ALoc} {c : Int × Int × Int} {ul : List (Int → Int)} {l : List Int}
set_option maxHeartbeats 4000000
theorem l_146_121 (hA : XA T nw h) (hT : XTp tp n h) (hv : TPV tp n) (hn : n = zfr T + 2 * T 1072 5 + 1) (hQ : ∀ h' k tl, zfk tp (zfr T) (T 1072 5).toNat 0 = false → Off (fun r i => r = 73) h h' → wpB (d + 15) 146 182 (some (.inr (.inr 1)) :: some (.inl n) :: some (.inl (zfr T)) :: some (.inl 0) :: some (.inl k) :: tl) [] h' Q)
    (hQ1 : ∀ h' k tl, zfk tp (zfr T) (T 1072 5).toNat 0 = true → Off (fun r i => r = 73) h h' → (∀ f, 0 ≤ f → f < T 1072 5 → ah_m h' 73 f = 256 * tp (zfr T + 2 * f) + tp (zfr T + 2 * f + 1)) → wpB (d + 15) 146 182 (some (.inr (.inr 1)) :: some (.inl n) :: some (.inl (zfr T)) :: some (.inl 1) :: some (.inl k) :: tl) [] h' Q) :
    ∀ (j : Nat) (f : Int) tl h', 0 ≤ f → f + j = T 1072 5 → Off (fun r i => r = 73) h h' → (∀ u, 0 ≤ u → u < f → ah_m h' 73 u = 256 * tp (zfr T + 2 * u) + tp (zfr T + 2 * u + 1)) → zfk tp (zfr T) j f = zfk tp (zfr T) (T 1072 5).toNat 0 → wpB (d + 15) 146 121 (some (.inr (.inr 1)) :: some (.inl n) :: some (.inl (zfr T)) :: some (.inl 1) :: some (.inl f) :: tl) [] h' Q := by
  have hK := hA.1
  have n8 := hK.2.2.2.1; have n6 := hK.2.2.2.2.1
  have n16 := hv.1.2
  have zf0 : zfr T = 3 + 2 * T 1072 4 := rfl
  have ok : ∀ r i, (r = 73) → ¬ fix r i ∧ ¬ BRr r ∧ ¬ (r = 1 ∧ i = 0) := fun r i w => by unfold fix BRr isS isV; omega
  intro j
  induction j with
  | zero =>
    intro f tl h' f0 f1 hO hu hz
    have hK' := XG_off hK hO ok
    have hlt : ¬ f < T 1072 5 := by omega
    simp only [zfk] at hz
    simp (disch := omega) only [q_146_121, b_146_121, ↓w_iconst, ↓w_sipush, ↓w_aload_n_0, ↓w_iload_n_2, ↓w_iload_n_3, ↓w_iload_4, ↓w_iadd, ↓w_imul, ↓w_getfield, ↓w_iaload, ↓w_iastore, ↓w_goto, ↓w_ifCond_eq, ↓w_if_icmp_ge, ↓w_if_icmp_gt, ↓w_invokevirtual_0, ↓w_invokevirtual_1, stw_0, stw_i, stw_l, stw_r, ofK0, ofK1, ofK2, lst1, lst2, lkill, kont_none, kont_some, Int.reduceToNat, List.length_cons, List.length_nil, Nat.reduceAdd, Nat.reduceLeDiff, Nat.zero_le, true_and, and_true, if_true, if_false, ne_eq, Int.reduceEq, Int.reduceNeg, not_false_eq_true, not_true_eq_false, ↓reduceIte, Int.reduceLT, Int.reduceLE, and_self, or_true, true_or, or_false, false_or, false_and, and_false, ah_t_w, ah_m_w, ah_n_w, lst1_0, List.tail_cons, w32_i, zbd, lst2_0, xt_1a hK', xf_1_13 hK', c_95 hK', hlt]
    exact hQ1 h' f _ hz.symm hO (fun u u0 u1 => hu u u0 (by omega))
  | succ j ih =>
    intro f tl h' f0 f1 hO hu hz
    have hK' := XG_off hK hO ok
    have hT' := XT_off hT hO (fun r i w => by omega)
    have hlt : f < T 1072 5 := by omega
    have f6 : f < 6 := by omega
    have hZ := is70
    have b1 := hv.2 (zfr T + 2 * f) (by omega) (by omega)
    have b2 := hv.2 (zfr T + 2 * f + 1) (by omega) (by omega)
    have c1 : ∀ {Q : QQ}, wpC (d + 15) 127 [.inr (.inr 1), .inl (zfr T + 2 * f)] h' Q ↔ _ := fun {Q} => c_127 (d := d + 13) hK' hT' hv (by omega) (show zfr T + 2 * f + 1 < n by omega)
    have q1 : ¬ (1 : Int) = 70 + 3 := by omega
    have q2 : ¬ (70 : Int) = 70 + 3 := by omega
    have q3 : (0 : Int) < 70 + 3 := by omega
    simp only [zfk] at hz
    rw [q_146_121]
    have hO1 : Off (fun r i => r = 73) h (ah_w h' (70 + 3) f (256 * tp (zfr T + 2 * f) + tp (zfr T + 2 * f + 1))) := Off_w hO (by omega)
    have hu1 : ∀ u, 0 ≤ u → u < f + 1 → ah_m (ah_w h' (70 + 3) f (256 * tp (zfr T + 2 * f) + tp (zfr T + 2 * f + 1))) 73 u = 256 * tp (zfr T + 2 * u) + tp (zfr T + 2 * u + 1) := fun u u0 u1 => by
      rw [ah_m_w]
      by_cases q : u = f
      · rw [if_pos ⟨by omega, q⟩, q]
      · rw [if_neg (fun z => q z.2)]; exact hu u u0 (by omega)
    by_cases g : 256 * tp (zfr T + 2 * f) + tp (zfr T + 2 * f + 1) ≤ 999
    · rw [if_pos g] at hz
      have g' : ¬ 999 < 256 * tp (zfr T + 2 * f) + tp (zfr T + 2 * f + 1) := by omega
      simp (disch := omega) only [b_146_121, q_146_175, b_146_175, ↓w_iconst, ↓w_sipush, ↓w_aload_n_0, ↓w_iload_n_2, ↓w_iload_n_3, ↓w_iload_4, ↓w_iinc_4, ↓w_istore_n_3, ↓w_iadd, ↓w_imul, ↓w_getfield, ↓w_iaload, ↓w_iastore, ↓w_goto, ↓w_ifCond_eq, ↓w_if_icmp_ge, ↓w_if_icmp_gt, ↓w_invokevirtual_0, ↓w_invokevirtual_1, stw_0, stw_i, stw_l, stw_r, ofK0, ofK1, ofK2, lst1, lst2, lkill, kont_none, kont_some, Int.reduceToNat, List.length_cons, List.length_nil, Nat.reduceAdd, Nat.reduceLeDiff, Nat.zero_le, true_and, and_true, if_true, if_false, ne_eq, Int.reduceEq, Int.reduceNeg, not_false_eq_true, not_true_eq_false, ↓reduceIte, Int.reduceLT, Int.reduceLE, and_self, or_true, true_or, or_false, false_or, false_and, and_false, ah_t_w, ah_m_w, ah_n_w, lst1_0, List.tail_cons, w32_i, zbd, lst2_0, xt_1a hK', xf_1_13 hK', sz_t hK' hZ, sz_5 hK' hZ, sz_5a hK' hZ, sz_5b hK' hZ, c_95 hK', hlt, c1, f0, f6, q1, q2, q3, g']
      exact ih (f + 1) _ _ (by omega) (by omega) hO1 hu1 hz
    · rw [if_neg g] at hz
      have g' : 999 < 256 * tp (zfr T + 2 * f) + tp (zfr T + 2 * f + 1) := by omega
      simp (disch := omega) only [b_146_121, q_146_174, b_146_174, q_146_175, b_146_175, ↓w_iconst, ↓w_sipush, ↓w_aload_n_0, ↓w_iload_n_2, ↓w_iload_n_3, ↓w_iload_4, ↓w_iinc_4, ↓w_istore_n_3, ↓w_iadd, ↓w_imul, ↓w_getfield, ↓w_iaload, ↓w_iastore, ↓w_nop, ↓w_goto, ↓w_ifCond_eq, ↓w_if_icmp_ge, ↓w_if_icmp_gt, ↓w_invokevirtual_0, ↓w_invokevirtual_1, stw_0, stw_i, stw_l, stw_r, ofK0, ofK1, ofK2, lst1, lst2, lkill, kont_none, kont_some, Int.reduceToNat, List.length_cons, List.length_nil, Nat.reduceAdd, Nat.reduceLeDiff, Nat.zero_le, true_and, and_true, if_true, if_false, ne_eq, Int.reduceEq, Int.reduceNeg, not_false_eq_true, not_true_eq_false, ↓reduceIte, Int.reduceLT, Int.reduceLE, and_self, or_true, true_or, or_false, false_or, false_and, and_false, ah_t_w, ah_m_w, ah_n_w, lst1_0, List.tail_cons, w32_i, zbd, lst2_0, xt_1a hK', xf_1_13 hK', sz_t hK' hZ, sz_5 hK' hZ, sz_5a hK' hZ, sz_5b hK' hZ, c_95 hK', hlt, c1, f0, f6, q1, q2, q3, g']
      generalize hgg : ah_w h' (70 + 3) f (256 * tp (zfr T + 2 * f) + tp (zfr T + 2 * f + 1)) = g1 at *
      have hK1 := XG_off hK hO1 ok
      by_cases q : f + 1 < T 1072 5
      · simp (disch := omega) only [q_146_121, b_146_121, ↓w_iconst, ↓w_sipush, ↓w_aload_n_0, ↓w_iload_n_2, ↓w_iload_n_3, ↓w_iload_4, ↓w_iadd, ↓w_imul, ↓w_getfield, ↓w_iaload, ↓w_iastore, ↓w_goto, ↓w_ifCond_eq, ↓w_if_icmp_ge, ↓w_if_icmp_gt, ↓w_invokevirtual_0, ↓w_invokevirtual_1, stw_0, stw_i, stw_l, stw_r, ofK0, ofK1, ofK2, lst1, lst2, lkill, kont_none, kont_some, Int.reduceToNat, List.length_cons, List.length_nil, Nat.reduceAdd, Nat.reduceLeDiff, Nat.zero_le, true_and, and_true, if_true, if_false, ne_eq, Int.reduceEq, Int.reduceNeg, not_false_eq_true, not_true_eq_false, ↓reduceIte, Int.reduceLT, Int.reduceLE, and_self, or_true, true_or, or_false, false_or, false_and, and_false, ah_t_w, ah_m_w, ah_n_w, lst1_0, List.tail_cons, w32_i, zbd, lst2_0, xt_1a hK1, xf_1_13 hK1, c_95 hK1, q]
        exact hQ g1 _ _ hz.symm hO1
      · simp (disch := omega) only [q_146_121, b_146_121, ↓w_iconst, ↓w_sipush, ↓w_aload_n_0, ↓w_iload_n_2, ↓w_iload_n_3, ↓w_iload_4, ↓w_iadd, ↓w_imul, ↓w_getfield, ↓w_iaload, ↓w_iastore, ↓w_goto, ↓w_ifCond_eq, ↓w_if_icmp_ge, ↓w_if_icmp_gt, ↓w_invokevirtual_0, ↓w_invokevirtual_1, stw_0, stw_i, stw_l, stw_r, ofK0, ofK1, ofK2, lst1, lst2, lkill, kont_none, kont_some, Int.reduceToNat, List.length_cons, List.length_nil, Nat.reduceAdd, Nat.reduceLeDiff, Nat.zero_le, true_and, and_true, if_true, if_false, ne_eq, Int.reduceEq, Int.reduceNeg, not_false_eq_true, not_true_eq_false, ↓reduceIte, Int.reduceLT, Int.reduceLE, and_self, or_true, true_or, or_false, false_or, false_and, and_false, ah_t_w, ah_m_w, ah_n_w, lst1_0, List.tail_cons, w32_i, zbd, lst2_0, xt_1a hK1, xf_1_13 hK1, c_95 hK1, q]
        exact hQ g1 _ _ hz.symm hO1
theorem c_146 (hA : XA T nw h) (hX : NX T nw) (hF : FV nw) (hU : XU T ul h) (en : ah_m h 1 2 = n) (hT : XTp tp n h) (hv : TPV tp n)
    (hQ0 : ∀ h', zisim T tp (T 1074 4) n = false → XA T nw h' → Off (fun r i => Wth r i ∨ (r = 1 ∧ i = 2) ∨ (r = 17 ∧ i = 5)) h h' → ah_m h' 1 2 = 0 → ah_m h' 17 5 = w32 (ah_m h 17 5 + 1) → Q (.inl (some (.inl 0))) h')
    (hQ1 : ∀ h', zisim T tp (T 1074 4) n = true → XA T (zon T tp nw) h' → XU T [] h' → Off (fun r i => Wth r i ∨ Wac r i ∨ (r = 1 ∧ (i = 2 ∨ i = 20))) h h' → ah_m h' 1 2 = 0 → Q (.inl (some (.inl 1))) h') : wpC (d + 16) 146 [.inr (.inr 1)] h Q := by
  have hK := hA.1
  have h40 := hF.2.2.2
  have n8 := hK.2.2.2.1; have n6 := hK.2.2.2.2.1
  have n16 := hv.1
  have hC := hK.2.2.2.2.2.1; have hR5 := hK.2.2.2.2.2.2.1
  have zf0 : 3 + 2 * T 1072 4 = zfr T := rfl
  have zf1 : zfr T = 3 + 2 * T 1072 4 := rfl
  have hO1 : Off (fun r i => r = 1 ∧ i = 2) h (ah_w h 1 2 0) := Off_w Off_rfl ⟨rfl, rfl⟩
  have ok12 : ∀ r i, (r = 1 ∧ i = 2) → (¬ fix r i ∧ ¬ BRr r ∧ ¬ (r = 1 ∧ i = 0)) ∧ r < 1121 ∧ (r < 25 ∨ (115 ≤ r ∧ r ≤ 119) ∨ 1020 ≤ r) := fun r i w => by unfold fix BRr isS isV; omega
  have hA1 := XA_off hA h40 hO1 ok12
  have hT1 := XT_off hT hO1 (fun r i w => by omega)
  rw [wpC_B]; refine ⟨⟨Nat.zero_lt_succ _, Nat.le_of_ble_eq_true rfl⟩, ?_⟩; simp only [lent]
  simp (disch := omega) only [q_146_0, b_146_0, ↓w_iconst, ↓w_sipush, ↓w_aload_n_0, ↓w_iload_n_1, ↓w_iload_n_2, ↓w_istore_n_1, ↓w_istore_n_2, ↓w_iadd, ↓w_isub, ↓w_imul, ↓w_getfield, ↓w_goto, ↓w_ifCond_eq, ↓w_if_icmp_ne, ↓w_if_icmp_ge, ↓w_if_icmp_gt, ↓w_invokevirtual_0, ↓w_invokevirtual_1, ↓w_invokestatic_2, stw_0, stw_i, stw_l, stw_r, ofK0, ofK1, ofK2, lst1, lst2, lkill, kont_none, kont_some, Int.reduceToNat, List.length_cons, List.length_nil, Nat.reduceAdd, Nat.reduceLeDiff, Nat.zero_le, true_and, and_true, if_true, if_false, ne_eq, Int.reduceEq, Int.reduceNeg, not_false_eq_true, not_true_eq_false, ↓reduceIte, Int.reduceLT, Int.reduceLE, and_self, or_true, true_or, or_false, false_or, false_and, and_false, ah_t_w, ah_m_w, ah_n_w, lst1_0, List.tail_cons, w32_i, zbd, lst2_0, xt_1a hK, xf_1_1 hK, xt_10a hK, xt_10b hK, c_89 hK, en]
  have e12 : ah_m (ah_w h 1 2 0) 1 2 = 0 := by rw [ah_m_w, if_pos ⟨rfl, rfl⟩]
  have r17 : ah_m (ah_w h 1 2 0) 17 5 = ah_m h 17 5 := by rw [ah_m_w, if_neg (by omega)]
  generalize hg1 : ah_w h 1 2 0 = g1 at *
  have hK1 := hA1.1
  have th12 : Off (fun r i => Wth r i ∨ (r = 1 ∧ i = 2) ∨ (r = 17 ∧ i = 5)) h g1 := Off_mono (fun r i w => Or.inr (Or.inl w)) hO1
  -- refused
  have bad : zisim T tp (T 1074 4) n = false → ∀ h2 tl, Off Wth g1 h2 → RP 70 h2 → wpB (d + 15) 146 182 (some (.inr (.inr 1)) :: some (.inl n) :: some (.inl (zfr T)) :: some (.inl 0) :: tl) [] h2 Q := by
    intro e h2 tl hO2 h70
    have hA2 := XA_th hA1 h40 hO2 h70
    have hK2 := hA2.1
    simp (disch := omega) only [q_146_182, b_146_182, q_146_198, b_146_198, q_146_199, b_146_199, ↓w_iconst, ↓w_aload_n_0, ↓w_iload_n_3, ↓w_nop, ↓w_goto, ↓w_ifCond_ne, ↓w_ifCond_lt, ↓w_ireturn1, ↓w_invokevirtual_1, stw_0, stw_i, stw_l, stw_r, ofK0, ofK1, ofK2, lst1, lst2, lkill, kont_none, kont_some, Int.reduceToNat, List.length_cons, List.length_nil, Nat.reduceAdd, Nat.reduceLeDiff, Nat.zero_le, true_and, and_true, if_true, if_false, ne_eq, Int.reduceEq, Int.reduceNeg, not_false_eq_true, not_true_eq_false, ↓reduceIte, Int.reduceLT, Int.reduceLE, and_self, or_true, true_or, or_false, false_or, false_and, and_false, ah_t_w, ah_m_w, ah_n_w, lst1_0, List.tail_cons, w32_i, zbd, lst2_0, xt_1a hK2, c_85 hK2]
    have hO3 : Off (fun r i => r = 17 ∧ i = 5) h2 (ah_w h2 17 5 (w32 (ah_m h2 17 5 + 1))) := Off_w Off_rfl ⟨rfl, rfl⟩
    refine hQ0 _ e (XA_off hA2 h40 hO3 (fun r i w => by unfold fix BRr isS isV; omega)) (Off_tr th12 (Off_tr (Off_mono (fun r i w => Or.inl w) hO2) (Off_mono (fun r i w => Or.inr (Or.inr w)) hO3))) ?_ ?_
    · rw [ah_m_w, if_neg (by omega), hO2.2 _ _ (fun w => by have := w.1; omega)]; exact e12
    · rw [ah_m_w, if_pos ⟨rfl, rfl⟩, hO2.2 _ _ (fun w => by have := w.1; omega), r17]
  -- with good false at 80
  have bad80 : zisim T tp (T 1074 4) n = false → wpB (d + 15) 146 80 [some (.inr (.inr 1)), some (.inl n), some (.inl (zfr T))] [.inl 0] g1 Q := by
    intro e
    have tS := sz_t hK1 is70
    simp (disch := omega) only [q_146_80, b_146_80, ↓w_iconst, ↓w_aload_n_0, ↓w_iload_n_3, ↓w_istore_n_3, ↓w_pop_i, ↓w_pop_a, ↓w_getfield, ↓w_goto, ↓w_ifCond_eq, ↓w_invokevirtual_1, ↓w_invokevirtual_2, stw_0, stw_i, stw_l, stw_r, ofK0, ofK1, ofK2, lst1, lst2, lkill, kont_none, kont_some, Int.reduceToNat, List.length_cons, List.length_nil, Nat.reduceAdd, Nat.reduceLeDiff, Nat.zero_le, true_and, and_true, if_true, if_false, ne_eq, Int.reduceEq, Int.reduceNeg, not_false_eq_true, not_true_eq_false, ↓reduceIte, Int.reduceLT, Int.reduceLE, and_self, or_true, true_or, or_false, false_or, false_and, and_false, ah_t_w, ah_m_w, ah_n_w, lst1_0, List.tail_cons, w32_i, zbd, lst2_0, xt_1a hK1, xf_1_12 hK1, xf_1_13 hK1, tS]
    refine cpy (d := d + 14) hA1 hF (fun h2 hA2 hS2 hO2 => ?_)
    have hK2 := hA2.1
    have bd := bad e h2
    simp (disch := omega) only [b_146_80, q_146_116, b_146_116, q_146_117, b_146_117, ↓w_iconst, ↓w_aload_n_0, ↓w_iload_n_3, ↓w_istore, ↓w_istore_n_3, ↓w_pop_i, ↓w_pop_a, ↓w_getfield, ↓w_nop, ↓w_goto, ↓w_ifCond_eq, ↓w_invokevirtual_1, ↓w_invokevirtual_2, stw_0, stw_i, stw_l, stw_r, ofK0, ofK1, ofK2, lst1, lst2, lkill, kont_none, kont_some, Int.reduceToNat, List.length_cons, List.length_nil, Nat.reduceAdd, Nat.reduceLeDiff, Nat.zero_le, true_and, and_true, if_true, if_false, ne_eq, Int.reduceEq, Int.reduceNeg, not_false_eq_true, not_true_eq_false, ↓reduceIte, Int.reduceLT, Int.reduceLE, and_self, or_true, true_or, or_false, false_or, false_and, and_false, ah_t_w, ah_m_w, ah_n_w, lst1_0, List.tail_cons, w32_i, zbd, lst2_0]
    by_cases q : 0 < T 1072 5
    · simp (disch := omega) only [q_146_121, b_146_121, ↓w_iconst, ↓w_sipush, ↓w_aload_n_0, ↓w_iload_n_2, ↓w_iload_n_3, ↓w_iload_4, ↓w_iadd, ↓w_imul, ↓w_getfield, ↓w_iaload, ↓w_iastore, ↓w_goto, ↓w_ifCond_eq, ↓w_if_icmp_ge, ↓w_if_icmp_gt, ↓w_invokevirtual_0, ↓w_invokevirtual_1, stw_0, stw_i, stw_l, stw_r, ofK0, ofK1, ofK2, lst1, lst2, lkill, kont_none, kont_some, Int.reduceToNat, List.length_cons, List.length_nil, Nat.reduceAdd, Nat.reduceLeDiff, Nat.zero_le, true_and, and_true, if_true, if_false, ne_eq, Int.reduceEq, Int.reduceNeg, not_false_eq_true, not_true_eq_false, ↓reduceIte, Int.reduceLT, Int.reduceLE, and_self, or_true, true_or, or_false, false_or, false_and, and_false, ah_t_w, ah_m_w, ah_n_w, lst1_0, List.tail_cons, w32_i, zbd, lst2_0, xt_1a hK2, xf_1_13 hK2, c_95 hK2, q]
      exact bd _ (Off_mono Wth_cp hO2) hS2.2.2.2.2.2.2
    · simp (disch := omega) only [q_146_121, b_146_121, ↓w_iconst, ↓w_sipush, ↓w_aload_n_0, ↓w_iload_n_2, ↓w_iload_n_3, ↓w_iload_4, ↓w_iadd, ↓w_imul, ↓w_getfield, ↓w_iaload, ↓w_iastore, ↓w_goto, ↓w_ifCond_eq, ↓w_if_icmp_ge, ↓w_if_icmp_gt, ↓w_invokevirtual_0, ↓w_invokevirtual_1, stw_0, stw_i, stw_l, stw_r, ofK0, ofK1, ofK2, lst1, lst2, lkill, kont_none, kont_some, Int.reduceToNat, List.length_cons, List.length_nil, Nat.reduceAdd, Nat.reduceLeDiff, Nat.zero_le, true_and, and_true, if_true, if_false, ne_eq, Int.reduceEq, Int.reduceNeg, not_false_eq_true, not_true_eq_false, ↓reduceIte, Int.reduceLT, Int.reduceLE, and_self, or_true, true_or, or_false, false_or, false_and, and_false, ah_t_w, ah_m_w, ah_n_w, lst1_0, List.tail_cons, w32_i, zbd, lst2_0, xt_1a hK2, xf_1_13 hK2, c_95 hK2, q]
      exact bd _ (Off_mono Wth_cp hO2) hS2.2.2.2.2.2.2
  by_cases gb : 0 < T 1074 4
  · by_cases gn : n = zfr T + 2 * T 1072 5 + 1
    · have ckt : ∀ {Q : QQ}, wpC (d + 15) 144 [.inr (.inr 10), .inl (n - 1)] g1 Q ↔ Q (.inl (some (.inl (zck2 tp (n - 1).toNat 0 59)))) g1 := fun {Q} => by
        rw [c_144 (d := d + 14) (xt_10a hK1) (by omega) (by rw [xt_10b hK1]; omega) (by omega)]
        rw [zck2_c (g := tp) _ _ _ (fun i a b => (hT1 i a (by omega)).2)]
      have c1 : ∀ {Q : QQ}, wpC (d + 15) 126 [.inr (.inr 1), .inl (n - 1)] g1 Q ↔ _ := fun {Q} => c_126 (d := d + 14) hK1 hT1 (by omega) (show n - 1 < n by omega) n16.2
      have c2 : ∀ {h' : AH} {Q : QQ}, XG T h' → XTp tp n h' → (wpC (d + 15) 126 [.inr (.inr 1), .inl 2] h' Q ↔ Q (.inl (some (.inl (tp 2)))) h') := fun {h' Q} a b => c_126 (d := d + 14) a b (by omega) (show (2 : Int) < n by omega) n16.2
      have c3 : ∀ {h' : AH} {Q : QQ}, XG T h' → XTp tp n h' → (wpC (d + 15) 127 [.inr (.inr 1), .inl 0] h' Q ↔ Q (.inl (some (.inl (256 * tp 0 + tp 1)))) h') := fun {h' Q} a b => c_127 (d := d + 13) a b hv (by omega) (show (0 : Int) + 1 < n by omega)
      have hb2 := hv.2 2 (by omega) (by omega)
      have hb0 := hv.2 0 (by omega) (by omega)
      have hb1 := hv.2 1 (by omega) (by omega)
      by_cases gk : tp (n - 1) = zck2 tp (n - 1).toNat 0 59
      · by_cases gd : 256 * tp 0 + tp 1 ≤ 999
        · by_cases gs : tp 2 ≤ 1
          · -- good
            have ez : zisim T tp (T 1074 4) n = (zam T tp 3 (zn T) 0 && zfk tp (zfr T) (T 1072 5).toNat 0) := by
              unfold zisim; rw [decide_eq_true ⟨by omega, gn, gk, gd, gs⟩, Bool.true_and]
            have gd' : ¬ 999 < 256 * tp 0 + tp 1 := by omega
            have gs' : tp 2 < 2 := by omega
            have tS := sz_t hK1 is70
            simp (disch := omega) only [b_146_0, q_146_80, b_146_80, ↓w_iconst, ↓w_sipush, ↓w_aload_n_0, ↓w_iload_n_1, ↓w_iload_n_2, ↓w_iload_n_3, ↓w_istore_n_1, ↓w_istore_n_2, ↓w_istore_n_3, ↓w_pop_i, ↓w_pop_a, ↓w_iadd, ↓w_isub, ↓w_imul, ↓w_getfield, ↓w_goto, ↓w_ifCond_eq, ↓w_if_icmp_ne, ↓w_if_icmp_ge, ↓w_if_icmp_gt, ↓w_invokevirtual_0, ↓w_invokevirtual_1, ↓w_invokestatic_2, ↓w_invokevirtual_2, stw_0, stw_i, stw_l, stw_r, ofK0, ofK1, ofK2, lst1, lst2, lkill, kont_none, kont_some, Int.reduceToNat, List.length_cons, List.length_nil, Nat.reduceAdd, Nat.reduceLeDiff, Nat.zero_le, true_and, and_true, if_true, if_false, ne_eq, Int.reduceEq, Int.reduceNeg, not_false_eq_true, not_true_eq_false, ↓reduceIte, Int.reduceLT, Int.reduceLE, and_self, or_true, true_or, or_false, false_or, false_and, and_false, ah_t_w, ah_m_w, ah_n_w, lst1_0, List.tail_cons, w32_i, zbd, lst2_0, xt_1a hK1, xf_1_1 hK1, xt_10a hK1, xt_10b hK1, xf_1_12 hK1, xf_1_13 hK1, c_81 hK1, zf0, c_98 hK1, gb, c_95 hK1, eq_true gn, c1, ckt, eq_true gk, c3 hK1 hT1, gd', c2 hK1 hT1, gs', tS]
            refine cpy (d := d + 14) hA1 hF (fun h2 hA2 hS2 hO2 => ?_)
            have hK2 := hA2.1
            have hZ := is70
            have hT2 := XT_off hT1 hO2 (fun r i w => by unfold Wcp at w; omega)
            have tR : ah_t h2 71 = (-1, 8) := Prod.ext (sz_3a hK2 is70) (sz_3b hK2 is70)
            have hO2' := Off_mono Wth_cp hO2
            simp (disch := omega) only [b_146_80, ↓w_iconst, ↓w_aload_n_0, ↓w_iload_n_3, ↓w_istore_n_3, ↓w_pop_i, ↓w_pop_a, ↓w_getfield, ↓w_goto, ↓w_ifCond_eq, ↓w_invokevirtual_1, ↓w_invokevirtual_2, stw_0, stw_i, stw_l, stw_r, ofK0, ofK1, ofK2, lst1, lst2, lkill, kont_none, kont_some, Int.reduceToNat, List.length_cons, List.length_nil, Nat.reduceAdd, Nat.reduceLeDiff, Nat.zero_le, true_and, and_true, if_true, if_false, ne_eq, Int.reduceEq, Int.reduceNeg, not_false_eq_true, not_true_eq_false, ↓reduceIte, Int.reduceLT, Int.reduceLE, and_self, or_true, true_or, or_false, false_or, false_and, and_false, ah_t_w, ah_m_w, ah_n_w, lst1_0, List.tail_cons, w32_i, zbd, lst2_0, xt_1a hK2, xf_1_12 hK2, xf_1_13 hK2, sz_t hK2 hZ, sz_3 hK2 hZ, sz_3a hK2 hZ, sz_3b hK2 hZ, show (70 : Int) + 1 = 71 by omega]
            refine c_131 (d := d + 12) hK2 hT2 hv (Or.inr rfl) tR (by omega) (by omega) (fun h3 e hO3 => ?_) (fun h3 e hO3 ep => ?_)
            · have hO3' : Off Wth h2 h3 := Off_mono (fun r i w => ⟨by omega, by unfold fix isS isV; omega⟩) hO3
              have h70 := RP_off hS2.2.2.2.2.2.2 hO3 (fun r i w => by omega)
              have hA3 := XA_th hA2 h40 hO3' h70
              have hK3 := hA3.1
              have bd := bad (by rw [ez, e]; rfl) h3
              simp (disch := omega) only [b_146_80, q_146_116, b_146_116, q_146_117, b_146_117, ↓w_iconst, ↓w_aload_n_0, ↓w_iload_n_3, ↓w_istore, ↓w_istore_n_3, ↓w_pop_i, ↓w_pop_a, ↓w_getfield, ↓w_nop, ↓w_goto, ↓w_ifCond_eq, ↓w_invokevirtual_1, ↓w_invokevirtual_2, stw_0, stw_i, stw_l, stw_r, ofK0, ofK1, ofK2, lst1, lst2, lkill, kont_none, kont_some, Int.reduceToNat, List.length_cons, List.length_nil, Nat.reduceAdd, Nat.reduceLeDiff, Nat.zero_le, true_and, and_true, if_true, if_false, ne_eq, Int.reduceEq, Int.reduceNeg, not_false_eq_true, not_true_eq_false, ↓reduceIte, Int.reduceLT, Int.reduceLE, and_self, or_true, true_or, or_false, false_or, false_and, and_false, ah_t_w, ah_m_w, ah_n_w, lst1_0, List.tail_cons, w32_i, zbd, lst2_0]
              by_cases q : 0 < T 1072 5
              · simp (disch := omega) only [q_146_121, b_146_121, ↓w_iconst, ↓w_sipush, ↓w_aload_n_0, ↓w_iload_n_2, ↓w_iload_n_3, ↓w_iload_4, ↓w_iadd, ↓w_imul, ↓w_getfield, ↓w_iaload, ↓w_iastore, ↓w_goto, ↓w_ifCond_eq, ↓w_if_icmp_ge, ↓w_if_icmp_gt, ↓w_invokevirtual_0, ↓w_invokevirtual_1, stw_0, stw_i, stw_l, stw_r, ofK0, ofK1, ofK2, lst1, lst2, lkill, kont_none, kont_some, Int.reduceToNat, List.length_cons, List.length_nil, Nat.reduceAdd, Nat.reduceLeDiff, Nat.zero_le, true_and, and_true, if_true, if_false, ne_eq, Int.reduceEq, Int.reduceNeg, not_false_eq_true, not_true_eq_false, ↓reduceIte, Int.reduceLT, Int.reduceLE, and_self, or_true, true_or, or_false, false_or, false_and, and_false, ah_t_w, ah_m_w, ah_n_w, lst1_0, List.tail_cons, w32_i, zbd, lst2_0, xt_1a hK3, xf_1_13 hK3, c_95 hK3, q]
                exact bd _ (Off_tr hO2' hO3') h70
              · simp (disch := omega) only [q_146_121, b_146_121, ↓w_iconst, ↓w_sipush, ↓w_aload_n_0, ↓w_iload_n_2, ↓w_iload_n_3, ↓w_iload_4, ↓w_iadd, ↓w_imul, ↓w_getfield, ↓w_iaload, ↓w_iastore, ↓w_goto, ↓w_ifCond_eq, ↓w_if_icmp_ge, ↓w_if_icmp_gt, ↓w_invokevirtual_0, ↓w_invokevirtual_1, stw_0, stw_i, stw_l, stw_r, ofK0, ofK1, ofK2, lst1, lst2, lkill, kont_none, kont_some, Int.reduceToNat, List.length_cons, List.length_nil, Nat.reduceAdd, Nat.reduceLeDiff, Nat.zero_le, true_and, and_true, if_true, if_false, ne_eq, Int.reduceEq, Int.reduceNeg, not_false_eq_true, not_true_eq_false, ↓reduceIte, Int.reduceLT, Int.reduceLE, and_self, or_true, true_or, or_false, false_or, false_and, and_false, ah_t_w, ah_m_w, ah_n_w, lst1_0, List.tail_cons, w32_i, zbd, lst2_0, xt_1a hK3, xf_1_13 hK3, c_95 hK3, q]
                exact bd _ (Off_tr hO2' hO3') h70
            · have hO3' : Off Wth h2 h3 := Off_mono (fun r i w => ⟨by omega, by unfold fix isS isV; omega⟩) hO3
              have h70 := RP_off hS2.2.2.2.2.2.2 hO3 (fun r i w => by omega)
              have hA3 := XA_th hA2 h40 hO3' h70
              have hT3 := XT_off hT2 hO3 (fun r i w => by omega)
              simp (disch := omega) only [b_146_80, q_146_117, b_146_117, ↓w_iconst, ↓w_aload_n_0, ↓w_iload_n_3, ↓w_istore, ↓w_istore_n_3, ↓w_pop_i, ↓w_pop_a, ↓w_getfield, ↓w_nop, ↓w_goto, ↓w_ifCond_eq, ↓w_invokevirtual_1, ↓w_invokevirtual_2, stw_0, stw_i, stw_l, stw_r, ofK0, ofK1, ofK2, lst1, lst2, lkill, kont_none, kont_some, Int.reduceToNat, List.length_cons, List.length_nil, Nat.reduceAdd, Nat.reduceLeDiff, Nat.zero_le, true_and, and_true, if_true, if_false, ne_eq, Int.reduceEq, Int.reduceNeg, not_false_eq_true, not_true_eq_false, ↓reduceIte, Int.reduceLT, Int.reduceLE, and_self, or_true, true_or, or_false, false_or, false_and, and_false, ah_t_w, ah_m_w, ah_n_w, lst1_0, List.tail_cons, w32_i, zbd, lst2_0]
              refine l_146_121 (d := d) hA3 hT3 hv gn (fun h4 k tl e4 hO4 => ?_) (fun h4 k tl e4 hO4 eb => ?_) (T 1072 5).toNat 0 _ h3 (by omega) (by omega) Off_rfl (fun u u0 u1 => by omega) rfl
              · have hO4' : Off Wth h3 h4 := Off_mono (fun r i w => ⟨by omega, by unfold fix isS isV; omega⟩) hO4
                exact bad (by rw [ez, e, e4]; rfl) h4 _ (Off_tr hO2' (Off_tr hO3' hO4')) (RP_off h70 hO4 (fun r i w => by omega))
              · have hO4' : Off Wth h3 h4 := Off_mono (fun r i w => ⟨by omega, by unfold fix isS isV; omega⟩) hO4
                have h704 := RP_off h70 hO4 (fun r i w => by omega)
                have hA4 := XA_th hA3 h40 hO4' h704
                have hK4 := hA4.1
                have hT4 := XT_off hT3 hO4 (fun r i w => by omega)
                obtain ⟨hh, hG⟩ := id hX
                have hNo := NV_on hG hv gn gs e
                have hXo := NX_of hX hNo
                have hFo := FV_on hF (NX_T hX) hv gn gd e4
                have hok := zam_ok (tp := tp) (fr := 3) (T := T) (zn T) 0 (by omega) e
                have o2 : ∀ m, 0 ≤ m → m < T 1072 4 → zon T tp nw (2 + 2 * m) = zgl tp (3 + 2 * m) ∧ zon T tp nw (3 + 2 * m) = zgl tp (3 + 2 * m + 1) := fun m m0 m1 => by
                  unfold zon
                  rw [if_neg (by omega), if_neg (by omega), if_pos (by omega), if_neg (by omega), if_neg (by omega), if_pos (by omega)]
                  exact ⟨by congr 1; omega, by congr 1 <;> omega⟩
                have epl : ∀ m, 0 ≤ m → m < T 1072 4 → ah_m h4 (70 + 1) m = zpl5 (zon T tp nw) m := fun m m0 m1 => by
                  rw [show (70 : Int) + 1 = 71 by omega, hO4.2 _ _ (by omega), ep m m0 m1]
                  have q := hok m m0 (by unfold zn; omega)
                  have b1 := hv.2 (3 + 2 * m) (by omega) (by omega)
                  have b2 := hv.2 (3 + 2 * m + 1) (by omega) (by omega)
                  unfold zplf zpl5
                  rw [(o2 m m0 m1).1, (o2 m m0 m1).2]
                  unfold zgl
                  rcases q with q | q
                  · rw [if_pos q, if_pos q.1, if_pos rfl]
                  · rw [if_neg (c := tp (3 + 2 * m) = 255 ∧ tp (3 + 2 * m + 1) = 255) (by omega), if_neg (c := tp (3 + 2 * m) = 255) (by omega), if_neg (c := tp (3 + 2 * m + 1) = 255) (by omega), if_neg (by omega)]
                have tS4 := sz_t hK4 is70
                simp (disch := omega) only [q_146_182, b_146_182, q_146_200, b_146_200, ↓w_iconst, ↓w_aload_n_0, ↓w_iload_n_3, ↓w_pop_i, ↓w_pop_a, ↓w_getfield, ↓w_putfield_0, ↓w_goto, ↓w_ifCond_ne, ↓w_ifCond_lt, ↓w_ireturn1, ↓w_invokevirtual_0, ↓w_invokevirtual_1, stw_0, stw_i, stw_l, stw_r, ofK0, ofK1, ofK2, lst1, lst2, lkill, kont_none, kont_some, Int.reduceToNat, List.length_cons, List.length_nil, Nat.reduceAdd, Nat.reduceLeDiff, Nat.zero_le, true_and, and_true, if_true, if_false, ne_eq, Int.reduceEq, Int.reduceNeg, not_false_eq_true, not_true_eq_false, ↓reduceIte, Int.reduceLT, Int.reduceLE, and_self, or_true, true_or, or_false, false_or, false_and, and_false, ah_t_w, ah_m_w, ah_n_w, lst1_0, List.tail_cons, w32_i, zbd, lst2_0, xt_1a hK4, xf_1_12 hK4, xf_1_13 hK4, tS4]
                refine c_212 (d := d + 9) hK4 is70 hXo epl (fun h5 hK5 hO5 e7 eo => ?_)
                have hT5 := XT_off hT4 hO5 (fun r i w => by unfold Wsd at w; omega)
                have tS5 := sz_t hK5 is70
                have hO5' : Off Wth h4 h5 := Off_mono (fun r i w => ⟨by unfold Wsd at w; omega, (Wsd_ok is70 r i w).1⟩) hO5
                simp (disch := omega) only [b_146_200, ↓w_iconst, ↓w_aload_n_0, ↓w_pop_i, ↓w_pop_a, ↓w_getfield, ↓w_putfield_0, ↓w_ireturn1, ↓w_invokevirtual_0, ↓w_invokevirtual_1, stw_0, stw_i, stw_l, stw_r, ofK0, ofK1, ofK2, lst1, lst2, lkill, kont_none, kont_some, Int.reduceToNat, List.length_cons, List.length_nil, Nat.reduceAdd, Nat.reduceLeDiff, Nat.zero_le, true_and, and_true, if_true, if_false, ne_eq, Int.reduceEq, Int.reduceNeg, not_false_eq_true, not_true_eq_false, ↓reduceIte, Int.reduceLT, Int.reduceLE, and_self, or_true, true_or, or_false, false_or, false_and, and_false, ah_t_w, ah_m_w, ah_n_w, lst1_0, List.tail_cons, w32_i, zbd, lst2_0, xt_1a hK5, xf_1_12 hK5, xf_1_13 hK5, tS5, c3 hK5 hT5]
                have w0 : Off (fun r i => r = 70 ∧ i ≤ 2 ∧ 0 ≤ i) h5 (ah_w h5 70 0 (256 * tp 0 + tp 1)) := Off_w Off_rfl (by omega)
                have okw : ∀ r i, (r = 70 ∧ i ≤ 2 ∧ 0 ≤ i) → ¬ fix r i ∧ ¬ BRr r ∧ ¬ (r = 1 ∧ i = 0) := fun r i w => by unfold fix BRr isS isV; omega
                have hK6 := XG_off hK5 w0 okw
                have hT6 := XT_off hT5 w0 (fun r i w => by omega)
                generalize hg6 : ah_w h5 70 0 (256 * tp 0 + tp 1) = g6 at *
                have tS6 := sz_t hK6 is70
                have tS6' := sz_t hK6 is25
                simp (disch := omega) only [b_146_200, ↓w_iconst, ↓w_aload_n_0, ↓w_pop_i, ↓w_pop_a, ↓w_getfield, ↓w_putfield_0, ↓w_ireturn1, ↓w_invokevirtual_0, ↓w_invokevirtual_1, stw_0, stw_i, stw_l, stw_r, ofK0, ofK1, ofK2, lst1, lst2, lkill, kont_none, kont_some, Int.reduceToNat, List.length_cons, List.length_nil, Nat.reduceAdd, Nat.reduceLeDiff, Nat.zero_le, true_and, and_true, if_true, if_false, ne_eq, Int.reduceEq, Int.reduceNeg, not_false_eq_true, not_true_eq_false, ↓reduceIte, Int.reduceLT, Int.reduceLE, and_self, or_true, true_or, or_false, false_or, false_and, and_false, ah_t_w, ah_m_w, ah_n_w, lst1_0, List.tail_cons, w32_i, zbd, lst2_0, xt_1a hK6, xf_1_12 hK6, xf_1_13 hK6, tS6, tS6', c2 hK6 hT6]
                generalize hg7 : ah_w (ah_w g6 70 1 (tp 2)) 70 2 0 = g7
                have w7 : Off (fun r i => r = 70 ∧ i ≤ 2 ∧ 0 ≤ i) h5 g7 := by rw [← hg7]; exact Off_w (Off_w w0 (by omega)) (by omega)
                have hK7 := XG_off hK5 w7 okw
                have hO7 : Off Wth h5 g7 := Off_mono (fun r i w => ⟨by omega, (okw r i w).1⟩) w7
                have z24 : zon T tp nw 24 = 0 := by unfold zon; rw [if_neg (by omega), if_neg (by omega), if_neg (by omega), if_neg (by omega), if_pos rfl]
                have hRP7 : RP 70 g7 := RP_off (RP_off h704 hO5 (fun r i w => by unfold Wsd at w; omega)) w7 (fun r i w => by omega)
                have hS7 : XS T (zon T tp nw) 70 g7 := by
                  have x7 : ∀ r i, ¬ (r = 70 ∧ i ≤ 2 ∧ 0 ≤ i) → ah_m g7 r i = ah_m h5 r i := w7.2
                  refine ⟨is70, ⟨?_, ?_, ?_, ?_⟩, fun m p q => ?_, fun p p0 p1 => ?_, fun f p q => ?_, fun k i p q u v => by omega, hRP7⟩
                  · rw [← hg7, ah_m_w, if_neg (by omega), ah_m_w, if_neg (by omega), ← hg6, ah_m_w, if_pos ⟨rfl, rfl⟩]; unfold zon; rw [if_pos rfl]
                  · rw [← hg7, ah_m_w, if_neg (by omega), ah_m_w, if_pos ⟨rfl, rfl⟩]; unfold zon; rw [if_neg (by omega), if_pos rfl]
                  · rw [← hg7, ah_m_w, if_pos ⟨rfl, rfl⟩, z24]
                  · rw [x7 _ _ (by omega)]; exact e7
                  · rw [x7 _ _ (by omega), hO5.2 _ _ (by unfold Wsd; omega)]; exact epl m p q
                  · rw [x7 _ _ (by omega)]; exact eo p p0 p1
                  · rw [x7 _ _ (by omega), hO5.2 _ _ (by unfold Wsd; omega), show (70 : Int) + 3 = 73 by omega, eb f p q]
                    unfold zon; rw [if_neg (by omega), if_neg (by omega), if_neg (by omega), if_pos (by omega), show 18 + f - 18 = f by omega]
                have hA7 := XA_th hA4 h40 (Off_tr hO5' hO7) hRP7
                refine c_220 (d := d + 14) hK7 hS7 is25 (by omega) (hA7.2.2.2 25 is25) hFo.2.2.2 hFo.2.2.1 (fun h8 hK8 hS8 hS8' hO8 => ?_)
                have hO8' := Off_mono Wac_cp hO8
                have hA8 := XA_ac hA7 hO8' hS8
                simp (disch := omega) only [b_146_200, ↓w_iconst, ↓w_aload_n_0, ↓w_pop_i, ↓w_pop_a, ↓w_getfield, ↓w_putfield_0, ↓w_ireturn1, ↓w_invokevirtual_0, ↓w_invokevirtual_1, stw_0, stw_i, stw_l, stw_r, ofK0, ofK1, ofK2, lst1, lst2, lkill, kont_none, kont_some, Int.reduceToNat, List.length_cons, List.length_nil, Nat.reduceAdd, Nat.reduceLeDiff, Nat.zero_le, true_and, and_true, if_true, if_false, ne_eq, Int.reduceEq, Int.reduceNeg, not_false_eq_true, not_true_eq_false, ↓reduceIte, Int.reduceLT, Int.reduceLE, and_self, or_true, true_or, or_false, false_or, false_and, and_false, ah_t_w, ah_m_w, ah_n_w, lst1_0, List.tail_cons, w32_i, zbd, lst2_0, xt_1a hK8, xf_1_12 hK8, xf_1_13 hK8]
                have hO9 : Off (fun r i => r = 1 ∧ i = 20) h8 (ah_w h8 1 20 0) := Off_w Off_rfl ⟨rfl, rfl⟩
                have hA9 := XA_off hA8 hFo.2.2.2 hO9 (fun r i w => by unfold fix BRr isS isV; omega)
                have hO7' : Off Wth g1 g7 := Off_tr hO2' (Off_tr hO3' (Off_tr hO4' (Off_tr hO5' hO7)))
                have hP8 : KP h8 := KP_off (KP_off (KP_off hU.2.2.1 hO1 (fun r i w => by omega)) hO7' (fun r i w => by have := w.1; omega)) hO8' (fun r i w => by have := w.1; omega)
                refine hQ1 _ (by rw [ez, e, e4]; rfl) hA9 ⟨by rw [ah_m_w, if_pos ⟨rfl, rfl⟩]; rfl, by simp, KP_off hP8 hO9 (fun r i w => by omega), trivial⟩ (Off_tr (Off_mono (fun r i w => Or.inr (Or.inr ⟨w.1, Or.inl w.2⟩)) hO1) (Off_tr (Off_mono (fun r i w => Or.inl w) hO7') (Off_tr (Off_mono (fun r i w => Or.inr (Or.inl w)) hO8') (Off_mono (fun r i w => Or.inr (Or.inr ⟨w.1, Or.inr w.2⟩)) hO9)))) ?_
                rw [ah_m_w, if_neg (by omega), hO8'.2 _ _ (fun w => by have := w.1; omega), hO7'.2 _ _ (fun w => by have := w.1; omega)]; exact e12
          · have ez : zisim T tp (T 1074 4) n = false := by unfold zisim; rw [decide_eq_false (fun q => gs q.2.2.2.2), Bool.false_and]
            have gd' : ¬ 999 < 256 * tp 0 + tp 1 := by omega
            have gs' : ¬ tp 2 < 2 := by omega
            simp (disch := omega) only [b_146_0, q_146_79, b_146_79, ↓w_iconst, ↓w_sipush, ↓w_aload_n_0, ↓w_iload_n_1, ↓w_iload_n_2, ↓w_istore_n_1, ↓w_istore_n_2, ↓w_iadd, ↓w_isub, ↓w_imul, ↓w_getfield, ↓w_nop, ↓w_goto, ↓w_ifCond_eq, ↓w_if_icmp_ne, ↓w_if_icmp_ge, ↓w_if_icmp_gt, ↓w_invokevirtual_0, ↓w_invokevirtual_1, ↓w_invokestatic_2, stw_0, stw_i, stw_l, stw_r, ofK0, ofK1, ofK2, lst1, lst2, lkill, kont_none, kont_some, Int.reduceToNat, List.length_cons, List.length_nil, Nat.reduceAdd, Nat.reduceLeDiff, Nat.zero_le, true_and, and_true, if_true, if_false, ne_eq, Int.reduceEq, Int.reduceNeg, not_false_eq_true, not_true_eq_false, ↓reduceIte, Int.reduceLT, Int.reduceLE, and_self, or_true, true_or, or_false, false_or, false_and, and_false, ah_t_w, ah_m_w, ah_n_w, lst1_0, List.tail_cons, w32_i, zbd, lst2_0, xt_1a hK1, xf_1_1 hK1, xt_10a hK1, xt_10b hK1, c_81 hK1, zf0, c_98 hK1, gb, c_95 hK1, eq_true gn, c1, ckt, eq_true gk, c3 hK1 hT1, gd', c2 hK1 hT1, gs']
            exact bad80 ez
        · have ez : zisim T tp (T 1074 4) n = false := by unfold zisim; rw [decide_eq_false (fun q => gd q.2.2.2.1), Bool.false_and]
          have gd' : 999 < 256 * tp 0 + tp 1 := by omega
          simp (disch := omega) only [b_146_0, q_146_79, b_146_79, ↓w_iconst, ↓w_sipush, ↓w_aload_n_0, ↓w_iload_n_1, ↓w_iload_n_2, ↓w_istore_n_1, ↓w_istore_n_2, ↓w_iadd, ↓w_isub, ↓w_imul, ↓w_getfield, ↓w_nop, ↓w_goto, ↓w_ifCond_eq, ↓w_if_icmp_ne, ↓w_if_icmp_ge, ↓w_if_icmp_gt, ↓w_invokevirtual_0, ↓w_invokevirtual_1, ↓w_invokestatic_2, stw_0, stw_i, stw_l, stw_r, ofK0, ofK1, ofK2, lst1, lst2, lkill, kont_none, kont_some, Int.reduceToNat, List.length_cons, List.length_nil, Nat.reduceAdd, Nat.reduceLeDiff, Nat.zero_le, true_and, and_true, if_true, if_false, ne_eq, Int.reduceEq, Int.reduceNeg, not_false_eq_true, not_true_eq_false, ↓reduceIte, Int.reduceLT, Int.reduceLE, and_self, or_true, true_or, or_false, false_or, false_and, and_false, ah_t_w, ah_m_w, ah_n_w, lst1_0, List.tail_cons, w32_i, zbd, lst2_0, xt_1a hK1, xf_1_1 hK1, xt_10a hK1, xt_10b hK1, c_81 hK1, zf0, c_98 hK1, gb, c_95 hK1, eq_true gn, c1, ckt, eq_true gk, c3 hK1 hT1, gd']
          exact bad80 ez
      · have ez : zisim T tp (T 1074 4) n = false := by unfold zisim; rw [decide_eq_false (fun q => gk q.2.2.1), Bool.false_and]
        simp (disch := omega) only [b_146_0, q_146_79, b_146_79, ↓w_iconst, ↓w_sipush, ↓w_aload_n_0, ↓w_iload_n_1, ↓w_iload_n_2, ↓w_istore_n_1, ↓w_istore_n_2, ↓w_iadd, ↓w_isub, ↓w_imul, ↓w_getfield, ↓w_nop, ↓w_goto, ↓w_ifCond_eq, ↓w_if_icmp_ne, ↓w_if_icmp_ge, ↓w_if_icmp_gt, ↓w_invokevirtual_0, ↓w_invokevirtual_1, ↓w_invokestatic_2, stw_0, stw_i, stw_l, stw_r, ofK0, ofK1, ofK2, lst1, lst2, lkill, kont_none, kont_some, Int.reduceToNat, List.length_cons, List.length_nil, Nat.reduceAdd, Nat.reduceLeDiff, Nat.zero_le, true_and, and_true, if_true, if_false, ne_eq, Int.reduceEq, Int.reduceNeg, not_false_eq_true, not_true_eq_false, ↓reduceIte, Int.reduceLT, Int.reduceLE, and_self, or_true, true_or, or_false, false_or, false_and, and_false, ah_t_w, ah_m_w, ah_n_w, lst1_0, List.tail_cons, w32_i, zbd, lst2_0, xt_1a hK1, xf_1_1 hK1, xt_10a hK1, xt_10b hK1, c_81 hK1, zf0, c_98 hK1, gb, c_95 hK1, eq_true gn, c1, ckt, gk]
        exact bad80 ez
    · have ez : zisim T tp (T 1074 4) n = false := by unfold zisim; rw [decide_eq_false (fun q => gn q.2.1), Bool.false_and]
      simp (disch := omega) only [b_146_0, q_146_79, b_146_79, ↓w_iconst, ↓w_sipush, ↓w_aload_n_0, ↓w_iload_n_1, ↓w_iload_n_2, ↓w_istore_n_1, ↓w_istore_n_2, ↓w_iadd, ↓w_isub, ↓w_imul, ↓w_getfield, ↓w_nop, ↓w_goto, ↓w_ifCond_eq, ↓w_if_icmp_ne, ↓w_if_icmp_ge, ↓w_if_icmp_gt, ↓w_invokevirtual_0, ↓w_invokevirtual_1, ↓w_invokestatic_2, stw_0, stw_i, stw_l, stw_r, ofK0, ofK1, ofK2, lst1, lst2, lkill, kont_none, kont_some, Int.reduceToNat, List.length_cons, List.length_nil, Nat.reduceAdd, Nat.reduceLeDiff, Nat.zero_le, true_and, and_true, if_true, if_false, ne_eq, Int.reduceEq, Int.reduceNeg, not_false_eq_true, not_true_eq_false, ↓reduceIte, Int.reduceLT, Int.reduceLE, and_self, or_true, true_or, or_false, false_or, false_and, and_false, ah_t_w, ah_m_w, ah_n_w, lst1_0, List.tail_cons, w32_i, zbd, lst2_0, xt_1a hK1, xf_1_1 hK1, xt_10a hK1, xt_10b hK1, c_81 hK1, zf0, c_98 hK1, gb, c_95 hK1, gn]
      exact bad80 ez
  · have ez : zisim T tp (T 1074 4) n = false := by unfold zisim; rw [decide_eq_false (fun q => by have := q.1; omega), Bool.false_and]
    simp (disch := omega) only [b_146_0, q_146_79, b_146_79, ↓w_iconst, ↓w_sipush, ↓w_aload_n_0, ↓w_iload_n_1, ↓w_iload_n_2, ↓w_istore_n_1, ↓w_istore_n_2, ↓w_iadd, ↓w_isub, ↓w_imul, ↓w_getfield, ↓w_nop, ↓w_goto, ↓w_ifCond_eq, ↓w_if_icmp_ne, ↓w_if_icmp_ge, ↓w_if_icmp_gt, ↓w_invokevirtual_0, ↓w_invokevirtual_1, ↓w_invokestatic_2, stw_0, stw_i, stw_l, stw_r, ofK0, ofK1, ofK2, lst1, lst2, lkill, kont_none, kont_some, Int.reduceToNat, List.length_cons, List.length_nil, Nat.reduceAdd, Nat.reduceLeDiff, Nat.zero_le, true_and, and_true, if_true, if_false, ne_eq, Int.reduceEq, Int.reduceNeg, not_false_eq_true, not_true_eq_false, ↓reduceIte, Int.reduceLT, Int.reduceLE, and_self, or_true, true_or, or_false, false_or, false_and, and_false, ah_t_w, ah_m_w, ah_n_w, lst1_0, List.tail_cons, w32_i, zbd, lst2_0, xt_1a hK1, xf_1_1 hK1, xt_10a hK1, xt_10b hK1, c_81 hK1, zf0, c_98 hK1, gb]
    exact bad80 ez
end A6
