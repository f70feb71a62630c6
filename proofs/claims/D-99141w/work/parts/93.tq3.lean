/-! ===== M: what goes on behind a fact; tests ===== -/
section TQ3
variable {d : Nat} {h h0 : AH} {Q : QQ} {x y z m k s l a b c v n p r o : Int} {t : Int → Int} {hm : Bool} {w0 w cs W : List Int} {K2 : Int → QQ} {R : (Int × Int) ⊕ (Int × List Int)}
set_option maxHeartbeats 4000000
theorem l_372s {R' C : List Int} {KK : QQ} (hq : ∀ h', MQs false t n k [] (25 :: R') C o h' → Off WZ h h' → wpB (d + 8) 372 49 [some (.inr (.inr 1036))] [] h' KK) : ∀ (w cs : List Int) h', zsq w = true → MQs false t n k [] w cs o h' → Off WZ h h' → (cs.length : Int) + w.length ≤ 1690 → (zd25 w).2 = R' → cs ++ (zd25 w).1 = C → wpB (d + 8) 372 33 [some (.inr (.inr 1036))] [] h' KK := by
  intro w
  induction w with
  | nil => intro cs h' e; cases e
  | cons x w ih =>
    intro cs h' hz hQ hO hl e1 e2
    have hM := hQ.1.1
    simp only [List.length_cons] at hl
    have c75 := fun {Q} => @c_275 (d + 7) h' Q k 25 n o t false [] (x :: w) cs hQ (by simp only [List.length_cons, List.length_nil]; omega)
    simp only [zon2_w] at c75
    simp only [zd25] at e1 e2
    rw [q_372_33]
    by_cases g : x = 25
    · rw [if_pos g] at e1 e2
      simp only [List.append_nil] at e2
      rw [← e1, ← e2, ← g] at hq
      simp (disch := omega) only [b_372_33, ↓w_bipush, ↓w_aload_n_0, ↓w_goto, ↓w_ifCond_ne, ↓w_invokevirtual_0, ↓w_invokevirtual_1, stw_0, stw_i, stw_l, stw_r, ofK0, ofK1, ofK2, lst1, lst2, lkill, kont_none, kont_some, Int.reduceToNat, List.length_cons, List.length_nil, Nat.reduceAdd, Nat.reduceLeDiff, Nat.zero_le, true_and, and_true, if_true, if_false, ne_eq, Int.reduceEq, Int.reduceNeg, not_false_eq_true, not_true_eq_false, ↓reduceIte, Int.reduceLT, Int.reduceLE, and_self, or_true, true_or, or_false, false_or, false_and, and_false, ah_t_w, ah_m_w, ah_n_w, lst1_0, List.tail_cons, w32_i, zbd, lst2_0, mt_1036a hM, c75, g]
      exact hq _ hQ hO
    · rw [if_neg g] at e1 e2
      simp only [zsq] at hz
      rw [if_neg g] at hz
      simp (disch := omega) only [b_372_33, ↓w_bipush, ↓w_aload_n_0, ↓w_goto, ↓w_ifCond_ne, ↓w_invokevirtual_0, ↓w_invokevirtual_1, stw_0, stw_i, stw_l, stw_r, ofK0, ofK1, ofK2, lst1, lst2, lkill, kont_none, kont_some, Int.reduceToNat, List.length_cons, List.length_nil, Nat.reduceAdd, Nat.reduceLeDiff, Nat.zero_le, true_and, and_true, if_true, if_false, ne_eq, Int.reduceEq, Int.reduceNeg, not_false_eq_true, not_true_eq_false, ↓reduceIte, Int.reduceLT, Int.reduceLE, and_self, or_true, true_or, or_false, false_or, false_and, and_false, ah_t_w, ah_m_w, ah_n_w, lst1_0, List.tail_cons, w32_i, zbd, lst2_0, mt_1036a hM, c75, g]
      refine c_270 hQ (by simp only [List.length_cons, List.length_nil]; omega) (fun h2 hQ2 hO2 => ?_)
      simp (disch := omega) only [b_372_33, ↓w_bipush, ↓w_aload_n_0, ↓w_goto, ↓w_ifCond_ne, ↓w_invokevirtual_0, ↓w_invokevirtual_1, stw_0, stw_i, stw_l, stw_r, ofK0, ofK1, ofK2, lst1, lst2, lkill, kont_none, kont_some, Int.reduceToNat, List.length_cons, List.length_nil, Nat.reduceAdd, Nat.reduceLeDiff, Nat.zero_le, true_and, and_true, if_true, if_false, ne_eq, Int.reduceEq, Int.reduceNeg, not_false_eq_true, not_true_eq_false, ↓reduceIte, Int.reduceLT, Int.reduceLE, and_self, or_true, true_or, or_false, false_or, false_and, and_false, ah_t_w, ah_m_w, ah_n_w, lst1_0, List.tail_cons, w32_i, zbd, lst2_0]
      refine ih (cs ++ [x]) h2 hz hQ2 (Off_tr hO (Off_mono (fun r i w => Or.inl w) hO2)) (by simp only [List.length_append, List.length_cons, List.length_nil]; omega) e1 ?_
      rw [← e2]; simp
theorem l_372a {R' C : List Int} {KK : QQ} (hq : ∀ h', MQs false t n k [] R' C o h' → Off WZ h h' → wpB (d + 8) 372 103 [some (.inr (.inr 1036))] [] h' KK) : ∀ (w cs : List Int) h', MQs false t n k [] w cs o h' → Off WZ h h' → (cs.length : Int) + w.length ≤ 1690 → (zdn 10 w).2 = R' → cs ++ (zdn 10 w).1 = C → wpB (d + 8) 372 87 [some (.inr (.inr 1036))] [] h' KK := by
  intro w
  induction w with
  | nil =>
    intro cs h' hQ hO hl e1 e2
    have hM := hQ.1.1
    simp only [zdn, List.append_nil] at e1 e2
    rw [← e1, ← e2] at hq
    have c75 := fun {Q} => @c_275 (d + 7) h' Q k 10 n o t false [] [] cs hQ (by simp)
    simp only [zon2_w] at c75
    simp (disch := omega) only [q_372_87, b_372_87, ↓w_bipush, ↓w_aload_n_0, ↓w_goto, ↓w_ifCond_eq, ↓w_invokevirtual_0, ↓w_invokevirtual_1, stw_0, stw_i, stw_l, stw_r, ofK0, ofK1, ofK2, lst1, lst2, lkill, kont_none, kont_some, Int.reduceToNat, List.length_cons, List.length_nil, Nat.reduceAdd, Nat.reduceLeDiff, Nat.zero_le, true_and, and_true, if_true, if_false, ne_eq, Int.reduceEq, Int.reduceNeg, not_false_eq_true, not_true_eq_false, ↓reduceIte, Int.reduceLT, Int.reduceLE, and_self, or_true, true_or, or_false, false_or, false_and, and_false, ah_t_w, ah_m_w, ah_n_w, lst1_0, List.tail_cons, w32_i, zbd, lst2_0, mt_1036a hM, c75]
    exact hq _ hQ hO
  | cons x w ih =>
    intro cs h' hQ hO hl e1 e2
    have hM := hQ.1.1
    simp only [List.length_cons] at hl
    have c75 := fun {Q} => @c_275 (d + 7) h' Q k 10 n o t false [] (x :: w) cs hQ (by simp only [List.length_cons, List.length_nil]; omega)
    simp only [zon2_w] at c75
    simp only [zdn] at e1 e2
    rw [q_372_87]
    by_cases g : x = 10
    · rw [if_pos (by omega)] at e1 e2
      simp (disch := omega) only [b_372_87, ↓w_bipush, ↓w_aload_n_0, ↓w_goto, ↓w_ifCond_eq, ↓w_invokevirtual_0, ↓w_invokevirtual_1, stw_0, stw_i, stw_l, stw_r, ofK0, ofK1, ofK2, lst1, lst2, lkill, kont_none, kont_some, Int.reduceToNat, List.length_cons, List.length_nil, Nat.reduceAdd, Nat.reduceLeDiff, Nat.zero_le, true_and, and_true, if_true, if_false, ne_eq, Int.reduceEq, Int.reduceNeg, not_false_eq_true, not_true_eq_false, ↓reduceIte, Int.reduceLT, Int.reduceLE, and_self, or_true, true_or, or_false, false_or, false_and, and_false, ah_t_w, ah_m_w, ah_n_w, lst1_0, List.tail_cons, w32_i, zbd, lst2_0, mt_1036a hM, c75, g]
      refine c_270 hQ (by simp only [List.length_cons, List.length_nil]; omega) (fun h2 hQ2 hO2 => ?_)
      simp (disch := omega) only [b_372_87, ↓w_bipush, ↓w_aload_n_0, ↓w_goto, ↓w_ifCond_eq, ↓w_invokevirtual_0, ↓w_invokevirtual_1, stw_0, stw_i, stw_l, stw_r, ofK0, ofK1, ofK2, lst1, lst2, lkill, kont_none, kont_some, Int.reduceToNat, List.length_cons, List.length_nil, Nat.reduceAdd, Nat.reduceLeDiff, Nat.zero_le, true_and, and_true, if_true, if_false, ne_eq, Int.reduceEq, Int.reduceNeg, not_false_eq_true, not_true_eq_false, ↓reduceIte, Int.reduceLT, Int.reduceLE, and_self, or_true, true_or, or_false, false_or, false_and, and_false, ah_t_w, ah_m_w, ah_n_w, lst1_0, List.tail_cons, w32_i, zbd, lst2_0]
      refine ih (cs ++ [x]) h2 hQ2 (Off_tr hO (Off_mono (fun r i w => Or.inl w) hO2)) (by simp only [List.length_append, List.length_cons, List.length_nil]; omega) e1 ?_
      rw [← e2]; simp
    · rw [if_neg (by omega)] at e1 e2
      simp only [List.append_nil] at e2
      rw [← e1, ← e2] at hq
      simp (disch := omega) only [b_372_87, ↓w_bipush, ↓w_aload_n_0, ↓w_goto, ↓w_ifCond_eq, ↓w_invokevirtual_0, ↓w_invokevirtual_1, stw_0, stw_i, stw_l, stw_r, ofK0, ofK1, ofK2, lst1, lst2, lkill, kont_none, kont_some, Int.reduceToNat, List.length_cons, List.length_nil, Nat.reduceAdd, Nat.reduceLeDiff, Nat.zero_le, true_and, and_true, if_true, if_false, ne_eq, Int.reduceEq, Int.reduceNeg, not_false_eq_true, not_true_eq_false, ↓reduceIte, Int.reduceLT, Int.reduceLE, and_self, or_true, true_or, or_false, false_or, false_and, and_false, ah_t_w, ah_m_w, ah_n_w, lst1_0, List.tail_cons, w32_i, zbd, lst2_0, mt_1036a hM, c75, g]
      exact hq _ hQ hO
theorem l_372o {R' C : List Int} {KK : QQ} (hq : ∀ h', MQs false t n k [] R' C o h' → Off WZ h h' → wpB (d + 8) 372 162 [some (.inr (.inr 1036))] [] h' KK) : ∀ (w cs : List Int) h', MQs false t n k [] w cs o h' → Off WZ h h' → (cs.length : Int) + w.length ≤ 1690 → (zdn 11 w).2 = R' → cs ++ (zdn 11 w).1 = C → wpB (d + 8) 372 137 [some (.inr (.inr 1036))] [] h' KK := by
  intro w
  induction w with
  | nil =>
    intro cs h' hQ hO hl e1 e2
    have hM := hQ.1.1
    simp only [zdn, List.append_nil] at e1 e2
    rw [← e1, ← e2] at hq
    have c75 := fun {Q v} => @c_275 (d + 7) h' Q k v n o t false [] [] cs hQ (by simp)
    simp only [zon2_w] at c75
    simp (disch := omega) only [q_372_137, b_372_137, ↓w_bipush, ↓w_aload_n_0, ↓w_nop, ↓w_ifCond_eq, ↓w_ifCond_ne, ↓w_invokevirtual_1, stw_0, stw_i, stw_l, stw_r, ofK0, ofK1, ofK2, lst1, lst2, lkill, kont_none, kont_some, Int.reduceToNat, List.length_cons, List.length_nil, Nat.reduceAdd, Nat.reduceLeDiff, Nat.zero_le, true_and, and_true, if_true, if_false, ne_eq, Int.reduceEq, Int.reduceNeg, not_false_eq_true, not_true_eq_false, ↓reduceIte, Int.reduceLT, Int.reduceLE, and_self, or_true, true_or, or_false, false_or, false_and, and_false, ah_t_w, ah_m_w, ah_n_w, lst1_0, List.tail_cons, w32_i, zbd, lst2_0, mt_1036a hM, c75]
    exact hq _ hQ hO
  | cons x w ih =>
    intro cs h' hQ hO hl e1 e2
    have hM := hQ.1.1
    simp only [List.length_cons] at hl
    have c75 := fun {Q v} => @c_275 (d + 7) h' Q k v n o t false [] (x :: w) cs hQ (by simp only [List.length_cons, List.length_nil]; omega)
    simp only [zon2_w] at c75
    simp only [zdn] at e1 e2
    have drop : 10 ≤ x ∧ x ≤ 11 → wpB (d + 8) 372 155 [some (.inr (.inr 1036))] [] h' KK := by
      intro g
      rw [if_pos g] at e1 e2
      simp (disch := omega) only [q_372_155, b_372_155, ↓w_aload_n_0, ↓w_goto, ↓w_invokevirtual_0, stw_0, stw_i, stw_l, stw_r, ofK0, ofK1, ofK2, lst1, lst2, lkill, kont_none, kont_some, Int.reduceToNat, List.length_cons, List.length_nil, Nat.reduceAdd, Nat.reduceLeDiff, Nat.zero_le, true_and, and_true, if_true, if_false, ne_eq, Int.reduceEq, Int.reduceNeg, not_false_eq_true, not_true_eq_false, ↓reduceIte, Int.reduceLT, Int.reduceLE, and_self, or_true, true_or, or_false, false_or, false_and, and_false, ah_t_w, ah_m_w, ah_n_w, lst1_0, List.tail_cons, w32_i, zbd, lst2_0, mt_1036a hM]
      refine c_270 hQ (by simp only [List.length_cons, List.length_nil]; omega) (fun h2 hQ2 hO2 => ?_)
      simp (disch := omega) only [b_372_155, ↓w_aload_n_0, ↓w_goto, ↓w_invokevirtual_0, stw_0, stw_i, stw_l, stw_r, ofK0, ofK1, ofK2, lst1, lst2, lkill, kont_none, kont_some, Int.reduceToNat, List.length_cons, List.length_nil, Nat.reduceAdd, Nat.reduceLeDiff, Nat.zero_le, true_and, and_true, if_true, if_false, ne_eq, Int.reduceEq, Int.reduceNeg, not_false_eq_true, not_true_eq_false, ↓reduceIte, Int.reduceLT, Int.reduceLE, and_self, or_true, true_or, or_false, false_or, false_and, and_false, ah_t_w, ah_m_w, ah_n_w, lst1_0, List.tail_cons, w32_i, zbd, lst2_0]
      refine ih (cs ++ [x]) h2 hQ2 (Off_tr hO (Off_mono (fun r i w => Or.inl w) hO2)) (by simp only [List.length_append, List.length_cons, List.length_nil]; omega) e1 ?_
      rw [← e2]; simp
    rw [q_372_137]
    by_cases g : x = 10
    · simp (disch := omega) only [b_372_137, ↓w_bipush, ↓w_aload_n_0, ↓w_nop, ↓w_ifCond_eq, ↓w_ifCond_ne, ↓w_invokevirtual_1, stw_0, stw_i, stw_l, stw_r, ofK0, ofK1, ofK2, lst1, lst2, lkill, kont_none, kont_some, Int.reduceToNat, List.length_cons, List.length_nil, Nat.reduceAdd, Nat.reduceLeDiff, Nat.zero_le, true_and, and_true, if_true, if_false, ne_eq, Int.reduceEq, Int.reduceNeg, not_false_eq_true, not_true_eq_false, ↓reduceIte, Int.reduceLT, Int.reduceLE, and_self, or_true, true_or, or_false, false_or, false_and, and_false, ah_t_w, ah_m_w, ah_n_w, lst1_0, List.tail_cons, w32_i, zbd, lst2_0, mt_1036a hM, c75, g]
      exact drop (by omega)
    · by_cases g2 : x = 11
      · simp (disch := omega) only [b_372_137, ↓w_bipush, ↓w_aload_n_0, ↓w_nop, ↓w_ifCond_eq, ↓w_ifCond_ne, ↓w_invokevirtual_1, stw_0, stw_i, stw_l, stw_r, ofK0, ofK1, ofK2, lst1, lst2, lkill, kont_none, kont_some, Int.reduceToNat, List.length_cons, List.length_nil, Nat.reduceAdd, Nat.reduceLeDiff, Nat.zero_le, true_and, and_true, if_true, if_false, ne_eq, Int.reduceEq, Int.reduceNeg, not_false_eq_true, not_true_eq_false, ↓reduceIte, Int.reduceLT, Int.reduceLE, and_self, or_true, true_or, or_false, false_or, false_and, and_false, ah_t_w, ah_m_w, ah_n_w, lst1_0, List.tail_cons, w32_i, zbd, lst2_0, mt_1036a hM, c75, g2, Int.reduceEq]
        exact drop (by omega)
      · rw [if_neg (by omega)] at e1 e2
        simp only [List.append_nil] at e2
        rw [← e1, ← e2] at hq
        simp (disch := omega) only [b_372_137, ↓w_bipush, ↓w_aload_n_0, ↓w_nop, ↓w_ifCond_eq, ↓w_ifCond_ne, ↓w_invokevirtual_1, stw_0, stw_i, stw_l, stw_r, ofK0, ofK1, ofK2, lst1, lst2, lkill, kont_none, kont_some, Int.reduceToNat, List.length_cons, List.length_nil, Nat.reduceAdd, Nat.reduceLeDiff, Nat.zero_le, true_and, and_true, if_true, if_false, ne_eq, Int.reduceEq, Int.reduceNeg, not_false_eq_true, not_true_eq_false, ↓reduceIte, Int.reduceLT, Int.reduceLE, and_self, or_true, true_or, or_false, false_or, false_and, and_false, ah_t_w, ah_m_w, ah_n_w, lst1_0, List.tail_cons, w32_i, zbd, lst2_0, mt_1036a hM, c75, g, g2]
        exact hq _ hQ hO
theorem sGt (hK2 : ∀ z2 k w cs o h, MTb w cs k o → MQs false t n k [] w cs o h → Off WZ h0 h → (∀ tl, tl.length ≤ 1 → wpB (d + 9) 369 2 (some (.inr (.inr 1036)) :: some (.inl 1) :: tl) [] h Q) → K2 z2 (.inl (some (.inl 1))) h)
    (hKF : ∀ z2 a b h, FFt Q R h0 a b → BX a b h → Off WZ h0 h → K2 z2 (.inl (some (.inl 0))) h)
    (hKZ : ∀ z2 p w cs o h, PZt t n Q h0 p (cs ++ w) o → MTb w cs p o → MQs false t n p [] w cs o h → Off WZ h0 h → K2 z2 (.inl (some (.inl 0))) h) :
    ∀ k w cs o, 0 ≤ k → k ≤ n → SGt t n (PAt t n d Q h0) (PEt t n d K2 h0) (FFt Q R h0) (PZt t n Q h0) k w cs o → PGt t n d K2 h0 k w cs o := by
  intro k w cs o h0' h1' hS hb z2 h hQ hO
  have hle := hb.1
  have ho := hb.2
  have hzc := zct_nn w
  have hX := hQ.1
  have hM := hX.1
  have h5 := hX.2.2.2.2.1
  have hbk := hX.2.2.2.2.2.1
  have hsl := @zsk_le k n t h1'
  have hs : zsk t n (zsk t n k) = zsk t n k := zsk_zsk h0' h1'
  rw [q_372_0]
  simp (disch := omega) only [b_372_0, ↓w_iconst, ↓w_bipush, ↓w_aload_n_0, ↓w_dup_i, ↓w_dup_a, ↓w_iadd, ↓w_getfield, ↓w_putfield_0, ↓w_nop, ↓w_ifCond_eq, ↓w_ifCond_ne, ↓w_if_icmp_ne, ↓w_invokevirtual_0, stw_0, stw_i, stw_l, stw_r, ofK0, ofK1, ofK2, lst1, lst2, lkill, kont_none, kont_some, Int.reduceToNat, List.length_cons, List.length_nil, Nat.reduceAdd, Nat.reduceLeDiff, Nat.zero_le, true_and, and_true, if_true, if_false, ne_eq, Int.reduceEq, Int.reduceNeg, not_false_eq_true, not_true_eq_false, ↓reduceIte, Int.reduceLT, Int.reduceLE, and_self, or_true, true_or, or_false, false_or, false_and, and_false, ah_t_w, ah_m_w, ah_n_w, lst1_0, List.tail_cons, w32_i, zbd, lst2_0, mt_1036a hM, h5]
  refine c_241 hX (fun h1 hX1 hO1 => ?_)
  have hQ1 := MQ_lx hQ hX1 hO1 (fun r i w => Wat_lx w)
  have hO1' : Off WZ h0 h1 := Off_tr hO (Off_mono (fun r i w => Or.inl (Wat_Q w)) hO1)
  have hM1 := hX1.1
  have e2 := hX1.2.2.2.1
  unfold SGt at hS
  generalize zsk t n k = p at *
  have c73 := fun {Q} => @c_373 (d + 7) h1 Q p n o t w cs hQ1 (by omega)
  -- nothing closes
  have go : ¬ (zB t n p = 93 ∧ zsq w = true) → wpB (d + 8) 372 76 [some (.inr (.inr 1036))] [] h1 (K2 z2) := by
    intro hn
    rw [if_neg hn] at hS
    simp (disch := omega) only [q_372_76, b_372_76, ↓w_aload_n_0, ↓w_getfield, ↓w_nop, ↓w_ifCond_eq, ↓w_invokevirtual_1, stw_0, stw_i, stw_l, stw_r, ofK0, ofK1, ofK2, lst1, lst2, lkill, kont_none, kont_some, Int.reduceToNat, List.length_cons, List.length_nil, Nat.reduceAdd, Nat.reduceLeDiff, Nat.zero_le, true_and, and_true, if_true, if_false, ne_eq, Int.reduceEq, Int.reduceNeg, not_false_eq_true, not_true_eq_false, ↓reduceIte, Int.reduceLT, Int.reduceLE, and_self, or_true, true_or, or_false, false_or, false_and, and_false, ah_t_w, ah_m_w, ah_n_w, lst1_0, List.tail_cons, w32_i, zbd, lst2_0, mt_1036a hM1, mt_1101a hM1, mt_1101b hM1, mf_94 hM1]
    refine c_239 hX1 (wb_1101 hM1) (by decide) (by decide) (fun h2 e hX2 hO2 => ?_) (fun h2 e hX2 hO2 => ?_)
    rotate_left
    · rw [hs] at e hX2
      have e' : zhw t n p zwand = true := e
      rw [if_pos e'] at hS
      have hQ2 := MQ_lx hQ1 hX2 hO2 (fun r i w => w)
      have hX2' : LX t n (p + 3) h2 := hX2
      have hQ2' : MQs false t n (p + 3) [] w cs o h2 := hQ2
      have hO2' : Off WZ h0 h2 := Off_tr hO1' (Off_mono (fun r i w => Or.inl (Wlx_Q w)) hO2)
      have hd := @zdn_ct 10 w
      simp (disch := omega) only [b_372_76, ↓w_aload_n_0, ↓w_getfield, ↓w_nop, ↓w_ifCond_eq, ↓w_invokevirtual_1, stw_0, stw_i, stw_l, stw_r, ofK0, ofK1, ofK2, lst1, lst2, lkill, kont_none, kont_some, Int.reduceToNat, List.length_cons, List.length_nil, Nat.reduceAdd, Nat.reduceLeDiff, Nat.zero_le, true_and, and_true, if_true, if_false, ne_eq, Int.reduceEq, Int.reduceNeg, not_false_eq_true, not_true_eq_false, ↓reduceIte, Int.reduceLT, Int.reduceLE, and_self, or_true, true_or, or_false, false_or, false_and, and_false, ah_t_w, ah_m_w, ah_n_w, lst1_0, List.tail_cons, w32_i, zbd, lst2_0]
      refine l_372a (h := h2) (fun h3 hQ3 hO3 => ?_) w cs h2 hQ2' Off_rfl (by omega) rfl rfl
      have e113 := hQ3.2.2.1
      have hl2 : (((zdn 10 w).2 ++ []).length : Int) = (zdn 10 w).2.length := by simp
      simp (disch := omega) only [q_372_103, b_372_103, ↓w_iconst, ↓w_bipush, ↓w_aload_n_0, ↓w_dup_i, ↓w_dup_a, ↓w_iadd, ↓w_getfield, ↓w_putfield_0, ↓w_iastore, ↓w_ireturn1, stw_0, stw_i, stw_l, stw_r, ofK0, ofK1, ofK2, lst1, lst2, lkill, kont_none, kont_some, Int.reduceToNat, List.length_cons, List.length_nil, Nat.reduceAdd, Nat.reduceLeDiff, Nat.zero_le, true_and, and_true, if_true, if_false, ne_eq, Int.reduceEq, Int.reduceNeg, not_false_eq_true, not_true_eq_false, ↓reduceIte, Int.reduceLT, Int.reduceLE, and_self, or_true, true_or, or_false, false_or, false_and, and_false, ah_t_w, ah_m_w, ah_n_w, lst1_0, List.tail_cons, w32_i, zbd, lst2_0, mt_1036a hQ3.1.1, mt_1118a hQ3.1.1, mt_1118b hQ3.1.1, mf_112 hQ3.1.1, e113]
      have hQ4 := MQ_push (op := 10) hQ3
      have hO4 : Off WZ h0 (ah_w (ah_w h3 1118 ((zdn 10 w).2 ++ []).length 10) 1036 113 (((zdn 10 w).2 ++ []).length + 1)) := Off_w (Off_w (Off_tr hO2' hO3) (by unfold WZ WQ; omega)) (by unfold WZ WQ; omega)
      have hb4 : MTb (10 :: (zdn 10 w).2) (cs ++ (zdn 10 w).1) (p + 3) o := by
        refine ⟨by simp only [List.length_append, List.length_cons]; omega, ?_, by omega, ?_⟩
        · simp only [zoc]; rw [if_neg (by decide)]; omega
        · intro v hv
          rcases List.mem_cons.1 hv with q | q
          · omega
          · exact ho.2.2 v (hd.2.2 v q)
      exact hK2 z2 _ _ _ _ _ hb4 hQ4 hO4 (fun tl htl => hS hb4 _ tl hQ4 hO4 htl)
    rw [hs] at e hX2
    have e' : ¬ zhw t n p zwand = true := by rw [show zhw t n p zwand = false from e]; decide
    rw [if_neg e'] at hS
    have hM2 := hX2.1
    simp (disch := omega) only [b_372_76, q_372_126, b_372_126, ↓w_aload_n_0, ↓w_getfield, ↓w_nop, ↓w_ifCond_eq, ↓w_invokevirtual_1, stw_0, stw_i, stw_l, stw_r, ofK0, ofK1, ofK2, lst1, lst2, lkill, kont_none, kont_some, Int.reduceToNat, List.length_cons, List.length_nil, Nat.reduceAdd, Nat.reduceLeDiff, Nat.zero_le, true_and, and_true, if_true, if_false, ne_eq, Int.reduceEq, Int.reduceNeg, not_false_eq_true, not_true_eq_false, ↓reduceIte, Int.reduceLT, Int.reduceLE, and_self, or_true, true_or, or_false, false_or, false_and, and_false, ah_t_w, ah_m_w, ah_n_w, lst1_0, List.tail_cons, w32_i, zbd, lst2_0, mt_1036a hM2, mt_1101a hM2, mt_1101b hM2, mf_94 hM2, mt_1102a hM2, mt_1102b hM2, mf_95 hM2]
    refine c_239 hX2 (wb_1102 hM2) (by decide) (by decide) (fun h3 e3 hX3 hO3 => ?_) (fun h3 e3 hX3 hO3 => ?_)
    rotate_left
    · rw [hs] at e3 hX3
      have e3' : zhw t n p zwor = true := e3
      rw [if_pos e3'] at hS
      have hO3' : Off Wlx h1 h3 := Off_tr (Off_mono (fun r i w => Wat_lx w) hO2) hO3
      have hQ3 : MQs false t n (p + 2) [] w cs o h3 := MQ_lx hQ1 hX3 hO3' (fun r i w => w)
      have hO3'' : Off WZ h0 h3 := Off_tr hO1' (Off_mono (fun r i w => Or.inl (Wlx_Q w)) hO3')
      have hd := @zdn_ct 11 w
      simp (disch := omega) only [b_372_126, ↓w_aload_n_0, ↓w_getfield, ↓w_nop, ↓w_ifCond_eq, ↓w_invokevirtual_1, stw_0, stw_i, stw_l, stw_r, ofK0, ofK1, ofK2, lst1, lst2, lkill, kont_none, kont_some, Int.reduceToNat, List.length_cons, List.length_nil, Nat.reduceAdd, Nat.reduceLeDiff, Nat.zero_le, true_and, and_true, if_true, if_false, ne_eq, Int.reduceEq, Int.reduceNeg, not_false_eq_true, not_true_eq_false, ↓reduceIte, Int.reduceLT, Int.reduceLE, and_self, or_true, true_or, or_false, false_or, false_and, and_false, ah_t_w, ah_m_w, ah_n_w, lst1_0, List.tail_cons, w32_i, zbd, lst2_0]
      refine l_372o (h := h3) (fun h4 hQ4 hO4 => ?_) w cs h3 hQ3 Off_rfl (by omega) rfl rfl
      have e113 := hQ4.2.2.1
      have hl2 : (((zdn 11 w).2 ++ []).length : Int) = (zdn 11 w).2.length := by simp
      simp (disch := omega) only [q_372_162, b_372_162, ↓w_iconst, ↓w_bipush, ↓w_aload_n_0, ↓w_dup_i, ↓w_dup_a, ↓w_iadd, ↓w_getfield, ↓w_putfield_0, ↓w_iastore, ↓w_ireturn1, stw_0, stw_i, stw_l, stw_r, ofK0, ofK1, ofK2, lst1, lst2, lkill, kont_none, kont_some, Int.reduceToNat, List.length_cons, List.length_nil, Nat.reduceAdd, Nat.reduceLeDiff, Nat.zero_le, true_and, and_true, if_true, if_false, ne_eq, Int.reduceEq, Int.reduceNeg, not_false_eq_true, not_true_eq_false, ↓reduceIte, Int.reduceLT, Int.reduceLE, and_self, or_true, true_or, or_false, false_or, false_and, and_false, ah_t_w, ah_m_w, ah_n_w, lst1_0, List.tail_cons, w32_i, zbd, lst2_0, mt_1036a hQ4.1.1, mt_1118a hQ4.1.1, mt_1118b hQ4.1.1, mf_112 hQ4.1.1, e113]
      have hQ5 := MQ_push (op := 11) hQ4
      have hO5 : Off WZ h0 (ah_w (ah_w h4 1118 ((zdn 11 w).2 ++ []).length 11) 1036 113 (((zdn 11 w).2 ++ []).length + 1)) := Off_w (Off_w (Off_tr hO3'' hO4) (by unfold WZ WQ; omega)) (by unfold WZ WQ; omega)
      have hb5 : MTb (11 :: (zdn 11 w).2) (cs ++ (zdn 11 w).1) (p + 2) o := by
        refine ⟨by simp only [List.length_append, List.length_cons]; omega, ?_, by omega, ?_⟩
        · simp only [zoc]; rw [if_neg (by decide)]; omega
        · intro v hv
          rcases List.mem_cons.1 hv with q | q
          · omega
          · exact ho.2.2 v (hd.2.2 v q)
      exact hK2 z2 _ _ _ _ _ hb5 hQ5 hO5 (fun tl htl => hS hb5 _ tl hQ5 hO5 htl)
    rw [hs] at e3 hX3
    have e3' : ¬ zhw t n p zwor = true := by rw [show zhw t n p zwor = false from e3]; decide
    rw [if_neg e3'] at hS
    have hO3' : Off Wat h1 h3 := Off_tr hO2 hO3
    have hQ3 := MQ_lx hQ1 hX3 hO3' (fun r i w => Wat_lx w)
    have hO3'' : Off WZ h0 h3 := Off_tr hO1' (Off_mono (fun r i w => Or.inl (Wat_Q w)) hO3')
    have h53 := hX3.2.2.2.2.1
    have e23 := hX3.2.2.2.1
    have hM3 := hX3.1
    have c73' := fun {Q} => @c_373 (d + 7) h3 Q p n o t w cs hQ3 (by omega)
    cases gz : zsq w
    · rw [gz, if_neg (by decide)] at hS
      simp (disch := omega) only [b_372_126, q_372_185, b_372_185, q_372_208, b_372_208, ↓w_iconst, ↓w_aload_n_0, ↓w_getfield, ↓w_nop, ↓w_ifCond_eq, ↓w_ifCond_ne, ↓w_ireturn1, ↓w_invokevirtual_0, ↓w_invokevirtual_1, ↓w_invokevirtual_2, stw_0, stw_i, stw_l, stw_r, ofK0, ofK1, ofK2, lst1, lst2, lkill, kont_none, kont_some, Int.reduceToNat, List.length_cons, List.length_nil, Nat.reduceAdd, Nat.reduceLeDiff, Nat.zero_le, true_and, and_true, if_true, if_false, ne_eq, Int.reduceEq, Int.reduceNeg, not_false_eq_true, not_true_eq_false, ↓reduceIte, Int.reduceLT, Int.reduceLE, and_self, or_true, true_or, or_false, false_or, false_and, and_false, ah_t_w, ah_m_w, ah_n_w, lst1_0, List.tail_cons, w32_i, zbd, lst2_0, mt_1036a hM3, mt_1102a hM3, mt_1102b hM3, mf_95 hM3, h53, c73', gz, zb_f]
      exact hKZ z2 p w cs o h3 hS ⟨by omega, ho⟩ hQ3 hO3''
    · rw [gz, if_pos rfl] at hS
      simp (disch := omega) only [b_372_126, q_372_185, b_372_185, q_372_208, b_372_208, ↓w_iconst, ↓w_aload_n_0, ↓w_getfield, ↓w_nop, ↓w_ifCond_eq, ↓w_ifCond_ne, ↓w_ireturn1, ↓w_invokevirtual_0, ↓w_invokevirtual_1, ↓w_invokevirtual_2, stw_0, stw_i, stw_l, stw_r, ofK0, ofK1, ofK2, lst1, lst2, lkill, kont_none, kont_some, Int.reduceToNat, List.length_cons, List.length_nil, Nat.reduceAdd, Nat.reduceLeDiff, Nat.zero_le, true_and, and_true, if_true, if_false, ne_eq, Int.reduceEq, Int.reduceNeg, not_false_eq_true, not_true_eq_false, ↓reduceIte, Int.reduceLT, Int.reduceLE, and_self, or_true, true_or, or_false, false_or, false_and, and_false, ah_t_w, ah_m_w, ah_n_w, lst1_0, List.tail_cons, w32_i, zbd, lst2_0, mt_1036a hM3, mt_1102a hM3, mt_1102b hM3, mf_95 hM3, h53, c73', gz, zb_t, e23, c_243 hM3 h53]
      exact hKF z2 1 p _ hS (BX_fail hM3 (by decide)) (Off_w (Off_w hO3'' (by unfold WZ WQ; omega)) (by unfold WZ WQ; omega))
  by_cases g1 : zB t n p = 93
  · cases gz : zsq w
    · simp (disch := omega) only [b_372_0, ↓w_iconst, ↓w_bipush, ↓w_aload_n_0, ↓w_dup_i, ↓w_dup_a, ↓w_iadd, ↓w_getfield, ↓w_putfield_0, ↓w_nop, ↓w_ifCond_eq, ↓w_ifCond_ne, ↓w_if_icmp_ne, ↓w_invokevirtual_0, stw_0, stw_i, stw_l, stw_r, ofK0, ofK1, ofK2, lst1, lst2, lkill, kont_none, kont_some, Int.reduceToNat, List.length_cons, List.length_nil, Nat.reduceAdd, Nat.reduceLeDiff, Nat.zero_le, true_and, and_true, if_true, if_false, ne_eq, Int.reduceEq, Int.reduceNeg, not_false_eq_true, not_true_eq_false, ↓reduceIte, Int.reduceLT, Int.reduceLE, and_self, or_true, true_or, or_false, false_or, false_and, and_false, ah_t_w, ah_m_w, ah_n_w, lst1_0, List.tail_cons, w32_i, zbd, lst2_0, mt_1036a hM1, g1, c73, gz, zb_f]
      exact go (fun q => by rw [gz] at q; cases q.2)
    · rw [if_pos ⟨g1, gz⟩] at hS
      have hlt : p < n := by rcases Int.lt_or_le p n with q | q; exact q; rw [zB_o q] at g1; omega
      have hX2 := LX_adv hX1 hlt (by rw [g1]; decide)
      have hQ2 := MQ_lx (W := Wat) hQ1 hX2 (Off_w Off_rfl (by unfold Wat; omega)) (fun r i w => Wat_lx w)
      have hO2 : Off WZ h0 (ah_w h1 1036 2 (p + 1)) := Off_w hO1' (by unfold WZ WQ; omega)
      have hd := zd25_ct w gz
      simp (disch := omega) only [b_372_0, ↓w_iconst, ↓w_bipush, ↓w_aload_n_0, ↓w_dup_i, ↓w_dup_a, ↓w_iadd, ↓w_getfield, ↓w_putfield_0, ↓w_nop, ↓w_ifCond_eq, ↓w_ifCond_ne, ↓w_if_icmp_ne, ↓w_invokevirtual_0, stw_0, stw_i, stw_l, stw_r, ofK0, ofK1, ofK2, lst1, lst2, lkill, kont_none, kont_some, Int.reduceToNat, List.length_cons, List.length_nil, Nat.reduceAdd, Nat.reduceLeDiff, Nat.zero_le, true_and, and_true, if_true, if_false, ne_eq, Int.reduceEq, Int.reduceNeg, not_false_eq_true, not_true_eq_false, ↓reduceIte, Int.reduceLT, Int.reduceLE, and_self, or_true, true_or, or_false, false_or, false_and, and_false, ah_t_w, ah_m_w, ah_n_w, lst1_0, List.tail_cons, w32_i, zbd, lst2_0, mt_1036a hM1, g1, c73, gz, zb_t, e2]
      refine l_372s (h := ah_w h1 1036 2 (p + 1)) (fun h3 hQ3 hO3 => ?_) w cs _ gz hQ2 Off_rfl (by omega) rfl rfl
      generalize (zd25 w).2 = rest at *
      obtain ⟨a0, a1, a2, a3, a4, a5, a6, a7⟩ := hQ3
      have f2 : ah_m h3 1036 113 = ((rest ++ []).length : Int) + 1 := by rw [a2]; simp
      have f3 : ((rest ++ []).length : Int) + 1 - 1 = (rest ++ []).length := by omega
      have hl2 : ((rest ++ []).length : Int) = rest.length := by simp
      have hzr := zct_nn rest
      have hQ4 : MQs false t n (p + 1) [] rest (cs ++ (zd25 w).1) (o - 1) (ah_w (ah_w h3 1036 113 (rest ++ []).length) 1036 114 (o - 1)) := by
        refine ⟨LX_w (LX_w a0 (by omega)) (by omega), Stk_w (Stk_w a1.2 (by omega)) (by omega), ?_, ?_, Cods_w (Cods_w a4 (by omega)) (by omega), ?_, ?_, ?_⟩
        · rw [ah_m_w, if_neg (by omega), ah_m_w, if_pos ⟨rfl, rfl⟩]
        · rw [ah_m_w, if_neg (by omega), ah_m_w, if_neg (by omega)]; exact a3
        · rw [ah_m_w, if_neg (by omega), ah_m_w, if_neg (by omega)]; exact a5
        · rw [ah_m_w, if_pos ⟨rfl, rfl⟩]
        · rw [ah_m_w, if_neg (by omega), ah_m_w, if_neg (by omega)]; exact a7
      have hO4 : Off WZ h0 (ah_w (ah_w h3 1036 113 (rest ++ []).length) 1036 114 (o - 1)) := Off_w (Off_w (Off_tr hO2 hO3) (by unfold WZ WQ; omega)) (by unfold WZ WQ; omega)
      have hc := z12_ct rest
      have hz := zct_nn (z12 rest).2
      simp (disch := omega) only [q_372_49, b_372_49, ↓w_iconst, ↓w_aload_n_0, ↓w_dup_i, ↓w_dup_a, ↓w_isub, ↓w_getfield, ↓w_putfield_0, ↓w_goto, ↓w_invokevirtual_0, stw_0, stw_i, stw_l, stw_r, ofK0, ofK1, ofK2, lst1, lst2, lkill, kont_none, kont_some, Int.reduceToNat, List.length_cons, List.length_nil, Nat.reduceAdd, Nat.reduceLeDiff, Nat.zero_le, true_and, and_true, if_true, if_false, ne_eq, Int.reduceEq, Int.reduceNeg, not_false_eq_true, not_true_eq_false, ↓reduceIte, Int.reduceLT, Int.reduceLE, and_self, or_true, true_or, or_false, false_or, false_and, and_false, ah_t_w, ah_m_w, ah_n_w, lst1_0, List.tail_cons, w32_i, zbd, lst2_0, mt_1036a a0.1, f2, f3, a6]
      refine c_371 hQ4 (by simp only [List.length_append]; omega) (by omega) (by omega) (fun h6 hQ6 hO6 => ?_)
      simp (disch := omega) only [b_372_49, ↓w_iconst, ↓w_aload_n_0, ↓w_dup_i, ↓w_dup_a, ↓w_isub, ↓w_getfield, ↓w_putfield_0, ↓w_goto, ↓w_invokevirtual_0, stw_0, stw_i, stw_l, stw_r, ofK0, ofK1, ofK2, lst1, lst2, lkill, kont_none, kont_some, Int.reduceToNat, List.length_cons, List.length_nil, Nat.reduceAdd, Nat.reduceLeDiff, Nat.zero_le, true_and, and_true, if_true, if_false, ne_eq, Int.reduceEq, Int.reduceNeg, not_false_eq_true, not_true_eq_false, ↓reduceIte, Int.reduceLT, Int.reduceLE, and_self, or_true, true_or, or_false, false_or, false_and, and_false, ah_t_w, ah_m_w, ah_n_w, lst1_0, List.tail_cons, w32_i, zbd, lst2_0]
      refine hS ⟨by simp only [List.length_append]; omega, by omega, by omega, fun v hv => ho.2.2 v (hd.2.2 v (hc.2.2 v hv))⟩ z2 h6 hQ6 (Off_tr hO4 hO6)
  · simp (disch := omega) only [b_372_0, ↓w_iconst, ↓w_bipush, ↓w_aload_n_0, ↓w_dup_i, ↓w_dup_a, ↓w_iadd, ↓w_getfield, ↓w_putfield_0, ↓w_nop, ↓w_ifCond_eq, ↓w_ifCond_ne, ↓w_if_icmp_ne, ↓w_invokevirtual_0, stw_0, stw_i, stw_l, stw_r, ofK0, ofK1, ofK2, lst1, lst2, lkill, kont_none, kont_some, Int.reduceToNat, List.length_cons, List.length_nil, Nat.reduceAdd, Nat.reduceLeDiff, Nat.zero_le, true_and, and_true, if_true, if_false, ne_eq, Int.reduceEq, Int.reduceNeg, not_false_eq_true, not_true_eq_false, ↓reduceIte, Int.reduceLT, Int.reduceLE, and_self, or_true, true_or, or_false, false_or, false_and, and_false, ah_t_w, ah_m_w, ah_n_w, lst1_0, List.tail_cons, w32_i, zbd, lst2_0, mt_1036a hM1, g1]
    exact go (fun q => g1 q.1)
end TQ3
