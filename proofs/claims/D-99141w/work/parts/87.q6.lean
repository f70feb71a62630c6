/-! ===== M: what goes on behind a part; sums ===== -/
def ntw (w0 : List Int) : Prop := match w0 with
  | [] => True
  | v :: _ => 4 < v
section Q6
variable {d : Nat} {h h0 : AH} {Q K1 K2 : QQ} {x y z m k s l a b c v n p r o : Int} {t : Int → Int} {hm : Bool} {w0 w cs : List Int}
set_option maxHeartbeats 4000000
theorem top_w0 (hw : ntw w0) (h1 : v ≤ 4) : zon2 v w0 = 0 := by
  match w0, hw with
  | [], _ => rfl
  | x :: _, hw => simp only [zon2]; rw [if_neg (by unfold ntw at hw; omega)]
theorem l_271m {tl : ALoc} {op : Int} {R C : List Int} (hw0 : ntw w0) (hq : ∀ h', MQs hm t n k w0 R C o h' → Off WQ h h' → wpB (d + 5) 271 185 (some (.inr (.inr 1036)) :: some (.inl op) :: tl) [] h' Q) :
    ∀ (w cs : List Int) h', MQs hm t n k w0 w cs o h' → Off WQ h h' → (cs.length : Int) + w.length + w0.length ≤ 1690 → (zdr 3 w).2 = R → cs ++ (zdr 3 w).1 = C → wpB (d + 5) 271 162 (some (.inr (.inr 1036)) :: some (.inl op) :: tl) [] h' Q := by
  intro w
  induction w with
  | nil =>
    intro cs h' hQ hO hl e1 e2
    have hM := hQ.1.1
    simp only [zdr, List.append_nil] at e1 e2
    rw [← e1, ← e2] at hq
    simp only [List.length_nil] at hl
    have c3 : ∀ {Q v}, v ≤ 4 → (wpC (d + 5) 275 [.inr (.inr 1036), .inl v] h' Q ↔ Q (.inl (some (.inl 0))) h') := by
      intro Q v hv
      rw [c_275 hQ (by simp; omega)]
      simp only [List.nil_append]
      rw [top_w0 hw0 hv]
    simp (disch := omega) only [q_271_162, b_271_162, ↓w_iconst, ↓w_aload_n_0, ↓w_nop, ↓w_ifCond_eq, ↓w_ifCond_ne, ↓w_invokevirtual_1, stw_0, stw_i, stw_l, stw_r, ofK0, ofK1, ofK2, lst1, lst2, lkill, kont_none, kont_some, Int.reduceToNat, List.length_cons, List.length_nil, Nat.reduceAdd, Nat.reduceLeDiff, Nat.zero_le, true_and, and_true, if_true, if_false, ne_eq, Int.reduceEq, Int.reduceNeg, not_false_eq_true, not_true_eq_false, ↓reduceIte, Int.reduceLT, Int.reduceLE, and_self, or_true, true_or, or_false, false_or, false_and, and_false, ah_t_w, ah_m_w, ah_n_w, lst1_0, List.tail_cons, w32_i, zbd, lst2_0, mt_1036a hM, c3]
    exact hq _ hQ hO
  | cons x w ih =>
    intro cs h' hQ hO hl e1 e2
    have hM := hQ.1.1
    simp only [List.length_cons] at hl
    have c3 : ∀ {Q v}, (wpC (d + 5) 275 [.inr (.inr 1036), .inl v] h' Q ↔ Q (.inl (some (.inl (if x = v then 1 else 0)))) h') := by
      intro Q v
      rw [c_275 hQ (by simp; omega)]
      rfl
    simp only [zdr] at e1 e2
    rw [q_271_162]
    have drop : 3 ≤ x ∧ x ≤ 4 → wpB (d + 5) 271 178 (some (.inr (.inr 1036)) :: some (.inl op) :: tl) [] h' Q := by
      intro g
      rw [if_pos g] at e1 e2
      simp (disch := omega) only [q_271_178, b_271_178, ↓w_aload_n_0, ↓w_goto, ↓w_invokevirtual_0, stw_0, stw_i, stw_l, stw_r, ofK0, ofK1, ofK2, lst1, lst2, lkill, kont_none, kont_some, Int.reduceToNat, List.length_cons, List.length_nil, Nat.reduceAdd, Nat.reduceLeDiff, Nat.zero_le, true_and, and_true, if_true, if_false, ne_eq, Int.reduceEq, Int.reduceNeg, not_false_eq_true, not_true_eq_false, ↓reduceIte, Int.reduceLT, Int.reduceLE, and_self, or_true, true_or, or_false, false_or, false_and, and_false, ah_t_w, ah_m_w, ah_n_w, lst1_0, List.tail_cons, w32_i, zbd, lst2_0, mt_1036a hM]
      refine c_270 hQ (by simp only [List.length_cons]; omega) (fun h2 hQ2 hO2 => ?_)
      simp (disch := omega) only [b_271_178, ↓w_aload_n_0, ↓w_goto, ↓w_invokevirtual_0, stw_0, stw_i, stw_l, stw_r, ofK0, ofK1, ofK2, lst1, lst2, lkill, kont_none, kont_some, Int.reduceToNat, List.length_cons, List.length_nil, Nat.reduceAdd, Nat.reduceLeDiff, Nat.zero_le, true_and, and_true, if_true, if_false, ne_eq, Int.reduceEq, Int.reduceNeg, not_false_eq_true, not_true_eq_false, ↓reduceIte, Int.reduceLT, Int.reduceLE, and_self, or_true, true_or, or_false, false_or, false_and, and_false, ah_t_w, ah_m_w, ah_n_w, lst1_0, List.tail_cons, w32_i, zbd, lst2_0]
      refine ih (cs ++ [x]) h2 hQ2 (Off_tr hO hO2) (by simp only [List.length_append, List.length_cons, List.length_nil]; omega) e1 ?_
      rw [← e2]; simp
    by_cases g3 : x = 3
    · simp (disch := omega) only [b_271_162, ↓w_iconst, ↓w_aload_n_0, ↓w_nop, ↓w_ifCond_eq, ↓w_ifCond_ne, ↓w_invokevirtual_1, stw_0, stw_i, stw_l, stw_r, ofK0, ofK1, ofK2, lst1, lst2, lkill, kont_none, kont_some, Int.reduceToNat, List.length_cons, List.length_nil, Nat.reduceAdd, Nat.reduceLeDiff, Nat.zero_le, true_and, and_true, if_true, if_false, ne_eq, Int.reduceEq, Int.reduceNeg, not_false_eq_true, not_true_eq_false, ↓reduceIte, Int.reduceLT, Int.reduceLE, and_self, or_true, true_or, or_false, false_or, false_and, and_false, ah_t_w, ah_m_w, ah_n_w, lst1_0, List.tail_cons, w32_i, zbd, lst2_0, mt_1036a hM, c3, g3]
      exact drop (by omega)
    · by_cases g4 : x = 4
      · simp (disch := omega) only [b_271_162, ↓w_iconst, ↓w_aload_n_0, ↓w_nop, ↓w_ifCond_eq, ↓w_ifCond_ne, ↓w_invokevirtual_1, stw_0, stw_i, stw_l, stw_r, ofK0, ofK1, ofK2, lst1, lst2, lkill, kont_none, kont_some, Int.reduceToNat, List.length_cons, List.length_nil, Nat.reduceAdd, Nat.reduceLeDiff, Nat.zero_le, true_and, and_true, if_true, if_false, ne_eq, Int.reduceEq, Int.reduceNeg, not_false_eq_true, not_true_eq_false, ↓reduceIte, Int.reduceLT, Int.reduceLE, and_self, or_true, true_or, or_false, false_or, false_and, and_false, ah_t_w, ah_m_w, ah_n_w, lst1_0, List.tail_cons, w32_i, zbd, lst2_0, mt_1036a hM, c3, g4, Int.reduceEq]
        exact drop (by omega)
      · rw [if_neg (by omega)] at e1 e2
        simp only [List.append_nil] at e2
        rw [← e1, ← e2] at hq
        simp (disch := omega) only [b_271_162, ↓w_iconst, ↓w_aload_n_0, ↓w_nop, ↓w_ifCond_eq, ↓w_ifCond_ne, ↓w_invokevirtual_1, stw_0, stw_i, stw_l, stw_r, ofK0, ofK1, ofK2, lst1, lst2, lkill, kont_none, kont_some, Int.reduceToNat, List.length_cons, List.length_nil, Nat.reduceAdd, Nat.reduceLeDiff, Nat.zero_le, true_and, and_true, if_true, if_false, ne_eq, Int.reduceEq, Int.reduceNeg, not_false_eq_true, not_true_eq_false, ↓reduceIte, Int.reduceLT, Int.reduceLE, and_self, or_true, true_or, or_false, false_or, false_and, and_false, ah_t_w, ah_m_w, ah_n_w, lst1_0, List.tail_cons, w32_i, zbd, lst2_0, mt_1036a hM, c3, g3, g4]
        exact hq _ hQ hO
theorem l_271a {tl : ALoc} {op : Int} {R C : List Int} (hw0 : ntw w0) (hq : ∀ h', MQs hm t n k w0 R C o h' → Off WQ h h' → wpB (d + 5) 271 286 (some (.inr (.inr 1036)) :: some (.inl op) :: tl) [] h' Q) :
    ∀ (w cs : List Int) h', MQs hm t n k w0 w cs o h' → Off WQ h h' → (cs.length : Int) + w.length + w0.length ≤ 1690 → (zdr 1 w).2 = R → cs ++ (zdr 1 w).1 = C → wpB (d + 5) 271 247 (some (.inr (.inr 1036)) :: some (.inl op) :: tl) [] h' Q := by
  intro w
  induction w with
  | nil =>
    intro cs h' hQ hO hl e1 e2
    have hM := hQ.1.1
    simp only [zdr, List.append_nil] at e1 e2
    rw [← e1, ← e2] at hq
    simp only [List.length_nil] at hl
    have c3 : ∀ {Q v}, v ≤ 4 → (wpC (d + 5) 275 [.inr (.inr 1036), .inl v] h' Q ↔ Q (.inl (some (.inl 0))) h') := by
      intro Q v hv
      rw [c_275 hQ (by simp; omega)]
      simp only [List.nil_append]
      rw [top_w0 hw0 hv]
    simp (disch := omega) only [q_271_247, b_271_247, ↓w_iconst, ↓w_aload_n_0, ↓w_nop, ↓w_ifCond_eq, ↓w_ifCond_ne, ↓w_invokevirtual_1, stw_0, stw_i, stw_l, stw_r, ofK0, ofK1, ofK2, lst1, lst2, lkill, kont_none, kont_some, Int.reduceToNat, List.length_cons, List.length_nil, Nat.reduceAdd, Nat.reduceLeDiff, Nat.zero_le, true_and, and_true, if_true, if_false, ne_eq, Int.reduceEq, Int.reduceNeg, not_false_eq_true, not_true_eq_false, ↓reduceIte, Int.reduceLT, Int.reduceLE, and_self, or_true, true_or, or_false, false_or, false_and, and_false, ah_t_w, ah_m_w, ah_n_w, lst1_0, List.tail_cons, w32_i, zbd, lst2_0, mt_1036a hM, c3]
    exact hq _ hQ hO
  | cons x w ih =>
    intro cs h' hQ hO hl e1 e2
    have hM := hQ.1.1
    simp only [List.length_cons] at hl
    have c3 : ∀ {Q v}, (wpC (d + 5) 275 [.inr (.inr 1036), .inl v] h' Q ↔ Q (.inl (some (.inl (if x = v then 1 else 0)))) h') := by
      intro Q v
      rw [c_275 hQ (by simp; omega)]
      rfl
    simp only [zdr] at e1 e2
    rw [q_271_247]
    have drop : 1 ≤ x ∧ x ≤ 4 → wpB (d + 5) 271 279 (some (.inr (.inr 1036)) :: some (.inl op) :: tl) [] h' Q := by
      intro g
      rw [if_pos g] at e1 e2
      simp (disch := omega) only [q_271_279, b_271_279, ↓w_aload_n_0, ↓w_goto, ↓w_invokevirtual_0, stw_0, stw_i, stw_l, stw_r, ofK0, ofK1, ofK2, lst1, lst2, lkill, kont_none, kont_some, Int.reduceToNat, List.length_cons, List.length_nil, Nat.reduceAdd, Nat.reduceLeDiff, Nat.zero_le, true_and, and_true, if_true, if_false, ne_eq, Int.reduceEq, Int.reduceNeg, not_false_eq_true, not_true_eq_false, ↓reduceIte, Int.reduceLT, Int.reduceLE, and_self, or_true, true_or, or_false, false_or, false_and, and_false, ah_t_w, ah_m_w, ah_n_w, lst1_0, List.tail_cons, w32_i, zbd, lst2_0, mt_1036a hM]
      refine c_270 hQ (by simp only [List.length_cons]; omega) (fun h2 hQ2 hO2 => ?_)
      simp (disch := omega) only [b_271_279, ↓w_aload_n_0, ↓w_goto, ↓w_invokevirtual_0, stw_0, stw_i, stw_l, stw_r, ofK0, ofK1, ofK2, lst1, lst2, lkill, kont_none, kont_some, Int.reduceToNat, List.length_cons, List.length_nil, Nat.reduceAdd, Nat.reduceLeDiff, Nat.zero_le, true_and, and_true, if_true, if_false, ne_eq, Int.reduceEq, Int.reduceNeg, not_false_eq_true, not_true_eq_false, ↓reduceIte, Int.reduceLT, Int.reduceLE, and_self, or_true, true_or, or_false, false_or, false_and, and_false, ah_t_w, ah_m_w, ah_n_w, lst1_0, List.tail_cons, w32_i, zbd, lst2_0]
      refine ih (cs ++ [x]) h2 hQ2 (Off_tr hO hO2) (by simp only [List.length_append, List.length_cons, List.length_nil]; omega) e1 ?_
      rw [← e2]; simp
    by_cases g3 : x = 3
    · simp (disch := omega) only [b_271_247, ↓w_iconst, ↓w_aload_n_0, ↓w_nop, ↓w_ifCond_eq, ↓w_ifCond_ne, ↓w_invokevirtual_1, stw_0, stw_i, stw_l, stw_r, ofK0, ofK1, ofK2, lst1, lst2, lkill, kont_none, kont_some, Int.reduceToNat, List.length_cons, List.length_nil, Nat.reduceAdd, Nat.reduceLeDiff, Nat.zero_le, true_and, and_true, if_true, if_false, ne_eq, Int.reduceEq, Int.reduceNeg, not_false_eq_true, not_true_eq_false, ↓reduceIte, Int.reduceLT, Int.reduceLE, and_self, or_true, true_or, or_false, false_or, false_and, and_false, ah_t_w, ah_m_w, ah_n_w, lst1_0, List.tail_cons, w32_i, zbd, lst2_0, mt_1036a hM, c3, g3]
      exact drop (by omega)
    · by_cases g4 : x = 4
      · simp (disch := omega) only [b_271_247, ↓w_iconst, ↓w_aload_n_0, ↓w_nop, ↓w_ifCond_eq, ↓w_ifCond_ne, ↓w_invokevirtual_1, stw_0, stw_i, stw_l, stw_r, ofK0, ofK1, ofK2, lst1, lst2, lkill, kont_none, kont_some, Int.reduceToNat, List.length_cons, List.length_nil, Nat.reduceAdd, Nat.reduceLeDiff, Nat.zero_le, true_and, and_true, if_true, if_false, ne_eq, Int.reduceEq, Int.reduceNeg, not_false_eq_true, not_true_eq_false, ↓reduceIte, Int.reduceLT, Int.reduceLE, and_self, or_true, true_or, or_false, false_or, false_and, and_false, ah_t_w, ah_m_w, ah_n_w, lst1_0, List.tail_cons, w32_i, zbd, lst2_0, mt_1036a hM, c3, g4, Int.reduceEq]
        exact drop (by omega)
      · by_cases g1 : x = 1
        · simp (disch := omega) only [b_271_247, ↓w_iconst, ↓w_aload_n_0, ↓w_nop, ↓w_ifCond_eq, ↓w_ifCond_ne, ↓w_invokevirtual_1, stw_0, stw_i, stw_l, stw_r, ofK0, ofK1, ofK2, lst1, lst2, lkill, kont_none, kont_some, Int.reduceToNat, List.length_cons, List.length_nil, Nat.reduceAdd, Nat.reduceLeDiff, Nat.zero_le, true_and, and_true, if_true, if_false, ne_eq, Int.reduceEq, Int.reduceNeg, not_false_eq_true, not_true_eq_false, ↓reduceIte, Int.reduceLT, Int.reduceLE, and_self, or_true, true_or, or_false, false_or, false_and, and_false, ah_t_w, ah_m_w, ah_n_w, lst1_0, List.tail_cons, w32_i, zbd, lst2_0, mt_1036a hM, c3, g1, Int.reduceEq]
          exact drop (by omega)
        · by_cases g2 : x = 2
          · simp (disch := omega) only [b_271_247, ↓w_iconst, ↓w_aload_n_0, ↓w_nop, ↓w_ifCond_eq, ↓w_ifCond_ne, ↓w_invokevirtual_1, stw_0, stw_i, stw_l, stw_r, ofK0, ofK1, ofK2, lst1, lst2, lkill, kont_none, kont_some, Int.reduceToNat, List.length_cons, List.length_nil, Nat.reduceAdd, Nat.reduceLeDiff, Nat.zero_le, true_and, and_true, if_true, if_false, ne_eq, Int.reduceEq, Int.reduceNeg, not_false_eq_true, not_true_eq_false, ↓reduceIte, Int.reduceLT, Int.reduceLE, and_self, or_true, true_or, or_false, false_or, false_and, and_false, ah_t_w, ah_m_w, ah_n_w, lst1_0, List.tail_cons, w32_i, zbd, lst2_0, mt_1036a hM, c3, g2, Int.reduceEq]
            exact drop (by omega)
          · rw [if_neg (by omega)] at e1 e2
            simp only [List.append_nil] at e2
            rw [← e1, ← e2] at hq
            simp (disch := omega) only [b_271_247, ↓w_iconst, ↓w_aload_n_0, ↓w_nop, ↓w_ifCond_eq, ↓w_ifCond_ne, ↓w_invokevirtual_1, stw_0, stw_i, stw_l, stw_r, ofK0, ofK1, ofK2, lst1, lst2, lkill, kont_none, kont_some, Int.reduceToNat, List.length_cons, List.length_nil, Nat.reduceAdd, Nat.reduceLeDiff, Nat.zero_le, true_and, and_true, if_true, if_false, ne_eq, Int.reduceEq, Int.reduceNeg, not_false_eq_true, not_true_eq_false, ↓reduceIte, Int.reduceLT, Int.reduceLE, and_self, or_true, true_or, or_false, false_or, false_and, and_false, ah_t_w, ah_m_w, ah_n_w, lst1_0, List.tail_cons, w32_i, zbd, lst2_0, mt_1036a hM, c3, g1, g2, g3, g4]
            exact hq _ hQ hO
theorem MQ_push {op : Int} (hQ : MQs hm t n k w0 w cs o h) : MQs hm t n k w0 (op :: w) cs o (ah_w (ah_w h 1118 (w ++ w0).length op) 1036 113 ((w ++ w0).length + 1)) := by
  obtain ⟨a0, a1, a2, a3, a4, a5, a6, a7⟩ := hQ
  refine ⟨LX_w (LX_w a0 (by omega)) (by omega), ⟨?_, ?_⟩, ?_, ?_, Cods_w (Cods_w a4 (by omega)) (by omega), ?_, ?_, ?_⟩
  · rw [ah_m_w, if_neg (by omega), ah_m_w]; exact if_pos ⟨rfl, rfl⟩
  · exact Stk_w (st := w ++ w0) (Stk_w a1 (by omega)) (by omega)
  · rw [ah_m_w, if_pos ⟨rfl, rfl⟩]; simp
  · rw [ah_m_w, if_neg (by omega), ah_m_w, if_neg (by omega)]; exact a3
  · rw [ah_m_w, if_neg (by omega), ah_m_w, if_neg (by omega)]; exact a5
  · rw [ah_m_w, if_neg (by omega), ah_m_w, if_neg (by omega)]; exact a6
  · rw [ah_m_w, if_neg (by omega), ah_m_w, if_neg (by omega)]; exact a7
/-- behind brackets that close -/
theorem G122 (hK2 : ∀ k w cs o h, MQb w0 w cs k o → MQs hm t n k w0 w cs o h → Off WQ h0 h → (∀ tl, wpB (d + 5) 262 2 (some (.inr (.inr 1036)) :: some (.inl 1) :: tl) [] h K1) → K2 (.inl (some (.inl 1))) h) (hw0 : ntw w0)
    (h0' : 0 ≤ k) (h1' : k ≤ n) (hs : zsk t n k = k) (hS : SG t n (PAw hm t n w0 d K1 h0) (PEw hm t n w0 d K2 h0) (FFw K1 K2 h0) (PZw hm t n w0 K2 h0) k w cs o) (hn : ¬ (zB t n k = 41 ∧ (zbr w = 20 ∨ zbr w = 23 ∨ zbr w = 24))) (hb : MQb w0 w cs k o) (hQ : MQs hm t n k w0 w cs o h) (hO : Off WQ h0 h) : wpB (d + 5) 271 122 [some (.inr (.inr 1036))] [] h K2 := by
  have hle := hb.1
  have ho := hb.2
  have hzc := zct_nn w
  have hX := hQ.1
  have hM := hX.1
  have hbk := hX.2.2.2.2.2.1
  unfold SG at hS
  rw [hs] at hS
  rw [if_neg hn] at hS
  -- an operator is pushed
  have push185 : ∀ h' R C op tl, MQs hm t n (k + 1) w0 R C o h' → Off WQ h0 h' → MQb w0 (op :: R) C (k + 1) o → PAw hm t n w0 d K1 h0 (k + 1) (op :: R) C o → wpB (d + 5) 271 185 (some (.inr (.inr 1036)) :: some (.inl op) :: tl) [] h' K2 := by
    intro h' R C op tl hQ' hO' hb' hP
    have e113 := hQ'.2.2.1
    have hl2 : ((R ++ w0).length : Int) = R.length + w0.length := by simp
    have hbl := hb'.1
    simp only [List.length_cons] at hbl
    simp (disch := omega) only [q_271_185, b_271_185, ↓w_iconst, ↓w_aload_n_0, ↓w_iload_n_1, ↓w_dup_i, ↓w_dup_a, ↓w_iadd, ↓w_getfield, ↓w_putfield_0, ↓w_iastore, ↓w_ireturn1, stw_0, stw_i, stw_l, stw_r, ofK0, ofK1, ofK2, lst1, lst2, lkill, kont_none, kont_some, Int.reduceToNat, List.length_cons, List.length_nil, Nat.reduceAdd, Nat.reduceLeDiff, Nat.zero_le, true_and, and_true, if_true, if_false, ne_eq, Int.reduceEq, Int.reduceNeg, not_false_eq_true, not_true_eq_false, ↓reduceIte, Int.reduceLT, Int.reduceLE, and_self, or_true, true_or, or_false, false_or, false_and, and_false, ah_t_w, ah_m_w, ah_n_w, lst1_0, List.tail_cons, w32_i, zbd, lst2_0, mt_1036a hQ'.1.1, mt_1118a hQ'.1.1, mt_1118b hQ'.1.1, mf_112 hQ'.1.1, e113]
    have hQ2 := MQ_push (op := op) hQ'
    have hO2 : Off WQ h0 (ah_w (ah_w h' 1118 (R ++ w0).length op) 1036 113 ((R ++ w0).length + 1)) := Off_w (Off_w hO' (by unfold WQ; omega)) (by unfold WQ; omega)
    exact hK2 _ _ _ _ _ hb' hQ2 hO2 (fun tl => hP hb' _ tl hQ2 hO2)
  have push286 : ∀ h' R C op tl, MQs hm t n (k + 1) w0 R C o h' → Off WQ h0 h' → MQb w0 (op :: R) C (k + 1) o → PAw hm t n w0 d K1 h0 (k + 1) (op :: R) C o → wpB (d + 5) 271 286 (some (.inr (.inr 1036)) :: some (.inl op) :: tl) [] h' K2 := by
    intro h' R C op tl hQ' hO' hb' hP
    have e113 := hQ'.2.2.1
    have hl2 : ((R ++ w0).length : Int) = R.length + w0.length := by simp
    have hbl := hb'.1
    simp only [List.length_cons] at hbl
    simp (disch := omega) only [q_271_286, b_271_286, ↓w_iconst, ↓w_aload_n_0, ↓w_iload_n_1, ↓w_dup_i, ↓w_dup_a, ↓w_iadd, ↓w_getfield, ↓w_putfield_0, ↓w_iastore, ↓w_ireturn1, stw_0, stw_i, stw_l, stw_r, ofK0, ofK1, ofK2, lst1, lst2, lkill, kont_none, kont_some, Int.reduceToNat, List.length_cons, List.length_nil, Nat.reduceAdd, Nat.reduceLeDiff, Nat.zero_le, true_and, and_true, if_true, if_false, ne_eq, Int.reduceEq, Int.reduceNeg, not_false_eq_true, not_true_eq_false, ↓reduceIte, Int.reduceLT, Int.reduceLE, and_self, or_true, true_or, or_false, false_or, false_and, and_false, ah_t_w, ah_m_w, ah_n_w, lst1_0, List.tail_cons, w32_i, zbd, lst2_0, mt_1036a hQ'.1.1, mt_1118a hQ'.1.1, mt_1118b hQ'.1.1, mf_112 hQ'.1.1, e113]
    have hQ2 := MQ_push (op := op) hQ'
    have hO2 : Off WQ h0 (ah_w (ah_w h' 1118 (R ++ w0).length op) 1036 113 ((R ++ w0).length + 1)) := Off_w (Off_w hO' (by unfold WQ; omega)) (by unfold WQ; omega)
    exact hK2 _ _ _ _ _ hb' hQ2 hO2 (fun tl => hP hb' _ tl hQ2 hO2)
  have hd3 := @zdr_ct 3 w
  have hd1 := @zdr_ct 1 w
  have hdb := zdb_ct w
  -- a sign that multiplies
  have mul : ∀ h', zB t n k = 42 ∨ zB t n k = 47 → LX t n (k + 1) h' → Off Wat h h' → wpB (d + 5) 271 140 [some (.inr (.inr 1036))] [] h' K2 := by
    intro h' g hX' hO'
    rw [if_pos g] at hS
    have hQ' := MQ_lx hQ hX' hO' (fun r i w => Wat_lx w)
    have hO2 : Off WQ h0 h' := Off_tr hO (Off_mono (fun r i w => Wat_Q w) hO')
    have hlt : k < n := by rcases Int.lt_or_le k n with q | q; exact q; rw [zB_o q] at g; omega
    have et : t k = zB t n k := (zB_i h0' hlt).symm
    have e1 := hX'.2.1
    have e2 := hX'.2.2.2.1
    have ek : k + 1 - 1 = k := by omega
    have fin : ∀ op tl, op = (if zB t n k = 42 then (3 : Int) else 4) → wpB (d + 5) 271 162 (some (.inr (.inr 1036)) :: some (.inl op) :: tl) [] h' K2 := by
      intro op tl eop
      rw [← eop] at hS
      have hop : 3 ≤ op ∧ op ≤ 4 := by rw [eop]; split <;> omega
      refine l_271m (h := h') hw0 (fun h2 hQ2 hO3 => ?_) w cs h' hQ' Off_rfl (by omega) rfl rfl
      refine push185 h2 _ _ op tl hQ2 (Off_tr hO2 hO3) ⟨?_, ?_, by omega⟩ hS
      · simp only [List.length_append, List.length_cons]; omega
      · simp only [zoc]; rw [if_neg (by omega)]; omega
    by_cases g2 : zB t n k = 42
    · rw [if_pos g2] at fin
      simp (disch := omega) only [q_271_140, b_271_140, q_271_161, b_271_161, ↓w_iconst, ↓w_bipush, ↓w_aload_n_0, ↓w_istore_n_1, ↓w_isub, ↓w_getfield, ↓w_iaload, ↓w_nop, ↓w_goto, ↓w_if_icmp_ne, stw_0, stw_i, stw_l, stw_r, ofK0, ofK1, ofK2, lst1, lst2, lkill, kont_none, kont_some, Int.reduceToNat, List.length_cons, List.length_nil, Nat.reduceAdd, Nat.reduceLeDiff, Nat.zero_le, true_and, and_true, if_true, if_false, ne_eq, Int.reduceEq, Int.reduceNeg, not_false_eq_true, not_true_eq_false, ↓reduceIte, Int.reduceLT, Int.reduceLE, and_self, or_true, true_or, or_false, false_or, false_and, and_false, ah_t_w, ah_m_w, ah_n_w, lst1_0, List.tail_cons, w32_i, zbd, lst2_0, mt_1036a hX'.1, mt_1037a hX'.1, mt_1037b hX'.1, mf_0 hX'.1, e1, e2, ek, et, g2]
      exact fin 3 _ rfl
    · rw [if_neg g2] at fin
      simp (disch := omega) only [q_271_140, b_271_140, q_271_160, b_271_160, q_271_161, b_271_161, ↓w_iconst, ↓w_bipush, ↓w_aload_n_0, ↓w_istore_n_1, ↓w_isub, ↓w_getfield, ↓w_iaload, ↓w_nop, ↓w_goto, ↓w_if_icmp_ne, stw_0, stw_i, stw_l, stw_r, ofK0, ofK1, ofK2, lst1, lst2, lkill, kont_none, kont_some, Int.reduceToNat, List.length_cons, List.length_nil, Nat.reduceAdd, Nat.reduceLeDiff, Nat.zero_le, true_and, and_true, if_true, if_false, ne_eq, Int.reduceEq, Int.reduceNeg, not_false_eq_true, not_true_eq_false, ↓reduceIte, Int.reduceLT, Int.reduceLE, and_self, or_true, true_or, or_false, false_or, false_and, and_false, ah_t_w, ah_m_w, ah_n_w, lst1_0, List.tail_cons, w32_i, zbd, lst2_0, mt_1036a hX'.1, mt_1037a hX'.1, mt_1037b hX'.1, mf_0 hX'.1, e1, e2, ek, et, g2]
      exact fin 4 _ rfl
  have add : ∀ h', zB t n k = 43 ∨ zB t n k = 45 → LX t n (k + 1) h' → Off Wat h h' → wpB (d + 5) 271 225 [some (.inr (.inr 1036))] [] h' K2 := by
    intro h' g hX' hO'
    rw [if_neg (by omega), if_pos g] at hS
    have hQ' := MQ_lx hQ hX' hO' (fun r i w => Wat_lx w)
    have hO2 : Off WQ h0 h' := Off_tr hO (Off_mono (fun r i w => Wat_Q w) hO')
    have hlt : k < n := by rcases Int.lt_or_le k n with q | q; exact q; rw [zB_o q] at g; omega
    have et : t k = zB t n k := (zB_i h0' hlt).symm
    have e1 := hX'.2.1
    have e2 := hX'.2.2.2.1
    have ek : k + 1 - 1 = k := by omega
    have fin : ∀ op tl, op = (if zB t n k = 43 then (1 : Int) else 2) → wpB (d + 5) 271 247 (some (.inr (.inr 1036)) :: some (.inl op) :: tl) [] h' K2 := by
      intro op tl eop
      rw [← eop] at hS
      have hop : 1 ≤ op ∧ op ≤ 2 := by rw [eop]; split <;> omega
      refine l_271a (h := h') hw0 (fun h2 hQ2 hO3 => ?_) w cs h' hQ' Off_rfl (by omega) rfl rfl
      refine push286 h2 _ _ op tl hQ2 (Off_tr hO2 hO3) ⟨?_, ?_, by omega⟩ hS
      · simp only [List.length_append, List.length_cons]; omega
      · simp only [zoc]; rw [if_neg (by omega)]; omega
    by_cases g2 : zB t n k = 43
    · rw [if_pos g2] at fin
      simp (disch := omega) only [q_271_225, b_271_225, q_271_246, b_271_246, ↓w_iconst, ↓w_bipush, ↓w_aload_n_0, ↓w_istore_n_1, ↓w_isub, ↓w_getfield, ↓w_iaload, ↓w_nop, ↓w_goto, ↓w_if_icmp_ne, stw_0, stw_i, stw_l, stw_r, ofK0, ofK1, ofK2, lst1, lst2, lkill, kont_none, kont_some, Int.reduceToNat, List.length_cons, List.length_nil, Nat.reduceAdd, Nat.reduceLeDiff, Nat.zero_le, true_and, and_true, if_true, if_false, ne_eq, Int.reduceEq, Int.reduceNeg, not_false_eq_true, not_true_eq_false, ↓reduceIte, Int.reduceLT, Int.reduceLE, and_self, or_true, true_or, or_false, false_or, false_and, and_false, ah_t_w, ah_m_w, ah_n_w, lst1_0, List.tail_cons, w32_i, zbd, lst2_0, mt_1036a hX'.1, mt_1037a hX'.1, mt_1037b hX'.1, mf_0 hX'.1, e1, e2, ek, et, g2]
      exact fin 1 _ rfl
    · rw [if_neg g2] at fin
      simp (disch := omega) only [q_271_225, b_271_225, q_271_245, b_271_245, q_271_246, b_271_246, ↓w_iconst, ↓w_bipush, ↓w_aload_n_0, ↓w_istore_n_1, ↓w_isub, ↓w_getfield, ↓w_iaload, ↓w_nop, ↓w_goto, ↓w_if_icmp_ne, stw_0, stw_i, stw_l, stw_r, ofK0, ofK1, ofK2, lst1, lst2, lkill, kont_none, kont_some, Int.reduceToNat, List.length_cons, List.length_nil, Nat.reduceAdd, Nat.reduceLeDiff, Nat.zero_le, true_and, and_true, if_true, if_false, ne_eq, Int.reduceEq, Int.reduceNeg, not_false_eq_true, not_true_eq_false, ↓reduceIte, Int.reduceLT, Int.reduceLE, and_self, or_true, true_or, or_false, false_or, false_and, and_false, ah_t_w, ah_m_w, ah_n_w, lst1_0, List.tail_cons, w32_i, zbd, lst2_0, mt_1036a hX'.1, mt_1037a hX'.1, mt_1037b hX'.1, mf_0 hX'.1, e1, e2, ek, et, g2]
      exact fin 2 _ rfl
  simp (disch := omega) only [q_271_122, b_271_122, ↓w_bipush, ↓w_aload_n_0, ↓w_nop, ↓w_ifCond_eq, ↓w_ifCond_ne, ↓w_invokevirtual_1, stw_0, stw_i, stw_l, stw_r, ofK0, ofK1, ofK2, lst1, lst2, lkill, kont_none, kont_some, Int.reduceToNat, List.length_cons, List.length_nil, Nat.reduceAdd, Nat.reduceLeDiff, Nat.zero_le, true_and, and_true, if_true, if_false, ne_eq, Int.reduceEq, Int.reduceNeg, not_false_eq_true, not_true_eq_false, ↓reduceIte, Int.reduceLT, Int.reduceLE, and_self, or_true, true_or, or_false, false_or, false_and, and_false, ah_t_w, ah_m_w, ah_n_w, lst1_0, List.tail_cons, w32_i, zbd, lst2_0, mt_1036a hM]
  refine c_248 hX (by decide) (fun ha n42 hXa hOa => ?_) (fun ha e42 hXa hOa => ?_)
  rotate_left
  · rw [hs] at e42 hXa
    simp (disch := omega) only [b_271_122, ↓w_bipush, ↓w_aload_n_0, ↓w_nop, ↓w_ifCond_eq, ↓w_ifCond_ne, ↓w_invokevirtual_1, stw_0, stw_i, stw_l, stw_r, ofK0, ofK1, ofK2, lst1, lst2, lkill, kont_none, kont_some, Int.reduceToNat, List.length_cons, List.length_nil, Nat.reduceAdd, Nat.reduceLeDiff, Nat.zero_le, true_and, and_true, if_true, if_false, ne_eq, Int.reduceEq, Int.reduceNeg, not_false_eq_true, not_true_eq_false, ↓reduceIte, Int.reduceLT, Int.reduceLE, and_self, or_true, true_or, or_false, false_or, false_and, and_false, ah_t_w, ah_m_w, ah_n_w, lst1_0, List.tail_cons, w32_i, zbd, lst2_0]
    exact mul ha (Or.inl e42) hXa hOa
  rw [hs] at n42 hXa
  simp (disch := omega) only [b_271_122, ↓w_bipush, ↓w_aload_n_0, ↓w_nop, ↓w_ifCond_eq, ↓w_ifCond_ne, ↓w_invokevirtual_1, stw_0, stw_i, stw_l, stw_r, ofK0, ofK1, ofK2, lst1, lst2, lkill, kont_none, kont_some, Int.reduceToNat, List.length_cons, List.length_nil, Nat.reduceAdd, Nat.reduceLeDiff, Nat.zero_le, true_and, and_true, if_true, if_false, ne_eq, Int.reduceEq, Int.reduceNeg, not_false_eq_true, not_true_eq_false, ↓reduceIte, Int.reduceLT, Int.reduceLE, and_self, or_true, true_or, or_false, false_or, false_and, and_false, ah_t_w, ah_m_w, ah_n_w, lst1_0, List.tail_cons, w32_i, zbd, lst2_0, mt_1036a hXa.1]
  refine c_248 hXa (by decide) (fun hb' n47 hXb hOb => ?_) (fun hb' e47 hXb hOb => ?_)
  rotate_left
  · rw [hs] at e47 hXb
    simp (disch := omega) only [b_271_122, ↓w_bipush, ↓w_aload_n_0, ↓w_nop, ↓w_ifCond_eq, ↓w_ifCond_ne, ↓w_invokevirtual_1, stw_0, stw_i, stw_l, stw_r, ofK0, ofK1, ofK2, lst1, lst2, lkill, kont_none, kont_some, Int.reduceToNat, List.length_cons, List.length_nil, Nat.reduceAdd, Nat.reduceLeDiff, Nat.zero_le, true_and, and_true, if_true, if_false, ne_eq, Int.reduceEq, Int.reduceNeg, not_false_eq_true, not_true_eq_false, ↓reduceIte, Int.reduceLT, Int.reduceLE, and_self, or_true, true_or, or_false, false_or, false_and, and_false, ah_t_w, ah_m_w, ah_n_w, lst1_0, List.tail_cons, w32_i, zbd, lst2_0]
    exact mul hb' (Or.inr e47) hXb (Off_tr hOa hOb)
  rw [hs] at n47 hXb
  simp (disch := omega) only [b_271_122, q_271_207, b_271_207, ↓w_bipush, ↓w_aload_n_0, ↓w_nop, ↓w_ifCond_eq, ↓w_ifCond_ne, ↓w_invokevirtual_1, stw_0, stw_i, stw_l, stw_r, ofK0, ofK1, ofK2, lst1, lst2, lkill, kont_none, kont_some, Int.reduceToNat, List.length_cons, List.length_nil, Nat.reduceAdd, Nat.reduceLeDiff, Nat.zero_le, true_and, and_true, if_true, if_false, ne_eq, Int.reduceEq, Int.reduceNeg, not_false_eq_true, not_true_eq_false, ↓reduceIte, Int.reduceLT, Int.reduceLE, and_self, or_true, true_or, or_false, false_or, false_and, and_false, ah_t_w, ah_m_w, ah_n_w, lst1_0, List.tail_cons, w32_i, zbd, lst2_0, mt_1036a hXb.1]
  refine c_248 hXb (by decide) (fun hc n43 hXc hOc => ?_) (fun hc e43 hXc hOc => ?_)
  rotate_left
  · rw [hs] at e43 hXc
    simp (disch := omega) only [b_271_207, ↓w_bipush, ↓w_aload_n_0, ↓w_nop, ↓w_ifCond_eq, ↓w_ifCond_ne, ↓w_invokevirtual_1, stw_0, stw_i, stw_l, stw_r, ofK0, ofK1, ofK2, lst1, lst2, lkill, kont_none, kont_some, Int.reduceToNat, List.length_cons, List.length_nil, Nat.reduceAdd, Nat.reduceLeDiff, Nat.zero_le, true_and, and_true, if_true, if_false, ne_eq, Int.reduceEq, Int.reduceNeg, not_false_eq_true, not_true_eq_false, ↓reduceIte, Int.reduceLT, Int.reduceLE, and_self, or_true, true_or, or_false, false_or, false_and, and_false, ah_t_w, ah_m_w, ah_n_w, lst1_0, List.tail_cons, w32_i, zbd, lst2_0]
    exact add hc (Or.inl e43) hXc (Off_tr hOa (Off_tr hOb hOc))
  rw [hs] at n43 hXc
  simp (disch := omega) only [b_271_207, ↓w_bipush, ↓w_aload_n_0, ↓w_nop, ↓w_ifCond_eq, ↓w_ifCond_ne, ↓w_invokevirtual_1, stw_0, stw_i, stw_l, stw_r, ofK0, ofK1, ofK2, lst1, lst2, lkill, kont_none, kont_some, Int.reduceToNat, List.length_cons, List.length_nil, Nat.reduceAdd, Nat.reduceLeDiff, Nat.zero_le, true_and, and_true, if_true, if_false, ne_eq, Int.reduceEq, Int.reduceNeg, not_false_eq_true, not_true_eq_false, ↓reduceIte, Int.reduceLT, Int.reduceLE, and_self, or_true, true_or, or_false, false_or, false_and, and_false, ah_t_w, ah_m_w, ah_n_w, lst1_0, List.tail_cons, w32_i, zbd, lst2_0, mt_1036a hXc.1]
  refine c_248 hXc (by decide) (fun hd n45 hXd hOd => ?_) (fun hd e45 hXd hOd => ?_)
  rotate_left
  · rw [hs] at e45 hXd
    simp (disch := omega) only [b_271_207, ↓w_bipush, ↓w_aload_n_0, ↓w_nop, ↓w_ifCond_eq, ↓w_ifCond_ne, ↓w_invokevirtual_1, stw_0, stw_i, stw_l, stw_r, ofK0, ofK1, ofK2, lst1, lst2, lkill, kont_none, kont_some, Int.reduceToNat, List.length_cons, List.length_nil, Nat.reduceAdd, Nat.reduceLeDiff, Nat.zero_le, true_and, and_true, if_true, if_false, ne_eq, Int.reduceEq, Int.reduceNeg, not_false_eq_true, not_true_eq_false, ↓reduceIte, Int.reduceLT, Int.reduceLE, and_self, or_true, true_or, or_false, false_or, false_and, and_false, ah_t_w, ah_m_w, ah_n_w, lst1_0, List.tail_cons, w32_i, zbd, lst2_0]
    exact add hd (Or.inr e45) hXd (Off_tr hOa (Off_tr hOb (Off_tr hOc hOd)))
  rw [hs] at n45 hXd
  rw [if_neg (by omega), if_neg (by omega)] at hS
  have hOd' : Off Wat h hd := Off_tr hOa (Off_tr hOb (Off_tr hOc hOd))
  have hQd := MQ_lx hQ hXd hOd' (fun r i w => Wat_lx w)
  have hO2 : Off WQ h0 hd := Off_tr hO (Off_mono (fun r i w => Wat_Q w) hOd')
  have hMd := hXd.1
  have h5d := hXd.2.2.2.2.1
  have e2d := hXd.2.2.2.1
  have c72 := fun {Q} => @c_272 (d + 3) hd Q k n o t hm w0 w cs hQd (by omega)
  have comma : zbr w = 21 ∨ zbr w = 22 → wpB (d + 5) 271 326 [some (.inr (.inr 1036))] [] hd K2 := by
    intro g
    rw [if_pos g] at hS
    simp (disch := omega) only [q_271_326, b_271_326, ↓w_iconst, ↓w_bipush, ↓w_aload_n_0, ↓w_getfield, ↓w_ifCond_eq, ↓w_ireturn1, ↓w_invokevirtual_1, stw_0, stw_i, stw_l, stw_r, ofK0, ofK1, ofK2, lst1, lst2, lkill, kont_none, kont_some, Int.reduceToNat, List.length_cons, List.length_nil, Nat.reduceAdd, Nat.reduceLeDiff, Nat.zero_le, true_and, and_true, if_true, if_false, ne_eq, Int.reduceEq, Int.reduceNeg, not_false_eq_true, not_true_eq_false, ↓reduceIte, Int.reduceLT, Int.reduceLE, and_self, or_true, true_or, or_false, false_or, false_and, and_false, ah_t_w, ah_m_w, ah_n_w, lst1_0, List.tail_cons, w32_i, zbd, lst2_0, mt_1036a hMd]
    refine c_247 hXd (by decide) (fun h2 ne hB hO3 => ?_) (fun h2 e44 hX2 hO3 => ?_)
    · rw [hs] at ne hB
      rw [if_neg ne] at hS
      have e5 := hB.2.1
      simp (disch := omega) only [b_271_326, ↓w_iconst, ↓w_bipush, ↓w_aload_n_0, ↓w_getfield, ↓w_ifCond_eq, ↓w_ireturn1, ↓w_invokevirtual_1, stw_0, stw_i, stw_l, stw_r, ofK0, ofK1, ofK2, lst1, lst2, lkill, kont_none, kont_some, Int.reduceToNat, List.length_cons, List.length_nil, Nat.reduceAdd, Nat.reduceLeDiff, Nat.zero_le, true_and, and_true, if_true, if_false, ne_eq, Int.reduceEq, Int.reduceNeg, not_false_eq_true, not_true_eq_false, ↓reduceIte, Int.reduceLT, Int.reduceLE, and_self, or_true, true_or, or_false, false_or, false_and, and_false, ah_t_w, ah_m_w, ah_n_w, lst1_0, List.tail_cons, w32_i, zbd, lst2_0, mt_1036a hB.1, e5]
      exact (hS h2 hB (cb hO3 (by unfold Wlx; omega) hQd.2.2.2.2.2.1 (by omega)) (Off_tr hO2 (Off_mono (fun r i w => Wlx_Q w) hO3))).2
    · rw [hs] at e44 hX2
      rw [if_pos e44] at hS
      have h52 := hX2.2.2.2.2.1
      have hQ2 := MQ_lx hQd hX2 hO3 (fun r i w => Wat_lx w)
      simp (disch := omega) only [b_271_326, q_271_341, b_271_341, ↓w_iconst, ↓w_bipush, ↓w_aload_n_0, ↓w_dup2, ↓w_iadd, ↓w_isub, ↓w_getfield, ↓w_iaload, ↓w_iastore, ↓w_ifCond_eq, ↓w_ireturn1, ↓w_invokevirtual_0, ↓w_invokevirtual_1, stw_0, stw_i, stw_l, stw_r, ofK0, ofK1, ofK2, lst1, lst2, lkill, kont_none, kont_some, Int.reduceToNat, List.length_cons, List.length_nil, Nat.reduceAdd, Nat.reduceLeDiff, Nat.zero_le, true_and, and_true, if_true, if_false, ne_eq, Int.reduceEq, Int.reduceNeg, not_false_eq_true, not_true_eq_false, ↓reduceIte, Int.reduceLT, Int.reduceLE, and_self, or_true, true_or, or_false, false_or, false_and, and_false, ah_t_w, ah_m_w, ah_n_w, lst1_0, List.tail_cons, w32_i, zbd, lst2_0, mt_1036a hX2.1, mt_1118a hX2.1, mt_1118b hX2.1, mf_112 hX2.1, h52]
      refine c_274 hQ2 (by omega) (fun h3 hQ3 hO4 => ?_)
      -- the bracket on top
      cases ez : (zdb w).2 with
      | nil => exfalso; unfold zbr at g; rw [ez] at g; simp at g
      | cons B rest =>
        have eB : zbr w = B := by unfold zbr; rw [ez]
        rw [ez] at hQ3 hS hdb
        rw [eB] at hS g
        simp only [List.tail_cons, List.length_cons] at hS hdb
        obtain ⟨a0, a1, a2, a3, a4, a5, a6, a7⟩ := hQ3
        have f2 : ah_m h3 1036 113 = ((rest ++ w0).length : Int) + 1 := by rw [a2]; simp
        have f1 : ah_m h3 1118 (rest ++ w0).length = B := a1.1
        have f3 : ((rest ++ w0).length : Int) + 1 - 1 = (rest ++ w0).length := by omega
        have hl2 : ((rest ++ w0).length : Int) = rest.length + w0.length := by simp
        simp (disch := omega) only [b_271_341, ↓w_iconst, ↓w_aload_n_0, ↓w_dup2, ↓w_iadd, ↓w_isub, ↓w_getfield, ↓w_iaload, ↓w_iastore, ↓w_ireturn1, ↓w_invokevirtual_0, stw_0, stw_i, stw_l, stw_r, ofK0, ofK1, ofK2, lst1, lst2, lkill, kont_none, kont_some, Int.reduceToNat, List.length_cons, List.length_nil, Nat.reduceAdd, Nat.reduceLeDiff, Nat.zero_le, true_and, and_true, if_true, if_false, ne_eq, Int.reduceEq, Int.reduceNeg, not_false_eq_true, not_true_eq_false, ↓reduceIte, Int.reduceLT, Int.reduceLE, and_self, or_true, true_or, or_false, false_or, false_and, and_false, ah_t_w, ah_m_w, ah_n_w, lst1_0, List.tail_cons, w32_i, zbd, lst2_0, mt_1036a a0.1, mt_1118a a0.1, mt_1118b a0.1, mf_112 a0.1, f1, f2, f3]
        have hb4 : MQb w0 ((B + 2) :: rest) (cs ++ (zdb w).1) (k + 1) o := by
          refine ⟨by simp only [List.length_append, List.length_cons]; omega, ?_, by omega⟩
          simp only [zoc] at hdb ⊢; rw [if_pos (by omega)] at hdb ⊢; omega
        have hQ4 : MQs hm t n (k + 1) w0 ((B + 2) :: rest) (cs ++ (zdb w).1) o (ah_w h3 1118 (rest ++ w0).length (B + 2)) := by
          refine ⟨LX_w a0 (by omega), ⟨?_, ?_⟩, ?_, ?_, Cods_w a4 (by omega), ?_, ?_, ?_⟩
          · rw [ah_m_w]; exact if_pos ⟨rfl, rfl⟩
          · exact Stk_w (st := rest ++ w0) a1.2 (by omega)
          · rw [ah_m_w, if_neg (by omega)]; exact a2
          · rw [ah_m_w, if_neg (by omega)]; exact a3
          · rw [ah_m_w, if_neg (by omega)]; exact a5
          · rw [ah_m_w, if_neg (by omega)]; exact a6
          · rw [ah_m_w, if_neg (by omega)]; exact a7
        have hO4' : Off WQ h0 (ah_w h3 1118 (rest ++ w0).length (B + 2)) := Off_w (Off_tr hO2 (Off_tr (Off_mono (fun r i w => Wat_Q w) hO3) hO4)) (by unfold WQ; omega)
        exact hK2 _ _ _ _ _ hb4 hQ4 hO4' (fun tl => hS hb4 _ tl hQ4 hO4')
  by_cases g1 : zbr w = 21
  · simp (disch := omega) only [b_271_207, q_271_308, b_271_308, ↓w_bipush, ↓w_aload_n_0, ↓w_nop, ↓w_ifCond_eq, ↓w_if_icmp_eq, ↓w_ifCond_ne, ↓w_if_icmp_ne, ↓w_invokevirtual_0, ↓w_invokevirtual_1, stw_0, stw_i, stw_l, stw_r, ofK0, ofK1, ofK2, lst1, lst2, lkill, kont_none, kont_some, Int.reduceToNat, List.length_cons, List.length_nil, Nat.reduceAdd, Nat.reduceLeDiff, Nat.zero_le, true_and, and_true, if_true, if_false, ne_eq, Int.reduceEq, Int.reduceNeg, not_false_eq_true, not_true_eq_false, ↓reduceIte, Int.reduceLT, Int.reduceLE, and_self, or_true, true_or, or_false, false_or, false_and, and_false, ah_t_w, ah_m_w, ah_n_w, lst1_0, List.tail_cons, w32_i, zbd, lst2_0, mt_1036a hMd, c72, g1]
    exact comma (Or.inl g1)
  · by_cases g2 : zbr w = 22
    · simp (disch := omega) only [b_271_207, q_271_308, b_271_308, ↓w_bipush, ↓w_aload_n_0, ↓w_nop, ↓w_ifCond_eq, ↓w_if_icmp_eq, ↓w_ifCond_ne, ↓w_if_icmp_ne, ↓w_invokevirtual_0, ↓w_invokevirtual_1, stw_0, stw_i, stw_l, stw_r, ofK0, ofK1, ofK2, lst1, lst2, lkill, kont_none, kont_some, Int.reduceToNat, List.length_cons, List.length_nil, Nat.reduceAdd, Nat.reduceLeDiff, Nat.zero_le, true_and, and_true, if_true, if_false, ne_eq, Int.reduceEq, Int.reduceNeg, not_false_eq_true, not_true_eq_false, ↓reduceIte, Int.reduceLT, Int.reduceLE, and_self, or_true, true_or, or_false, false_or, false_and, and_false, ah_t_w, ah_m_w, ah_n_w, lst1_0, List.tail_cons, w32_i, zbd, lst2_0, mt_1036a hMd, c72, g2, Int.reduceEq]
      exact comma (Or.inr g2)
    · rw [if_neg (by omega)] at hS
      by_cases g3 : zbr w = -1
      · rw [if_neg (fun q => q g3)] at hS
        simp (disch := omega) only [b_271_207, q_271_308, b_271_308, q_271_362, b_271_362, q_271_386, b_271_386, ↓w_iconst, ↓w_bipush, ↓w_aload_n_0, ↓w_getfield, ↓w_nop, ↓w_ifCond_eq, ↓w_if_icmp_eq, ↓w_ifCond_ne, ↓w_if_icmp_ne, ↓w_ireturn1, ↓w_invokevirtual_0, ↓w_invokevirtual_1, ↓w_invokevirtual_2, stw_0, stw_i, stw_l, stw_r, ofK0, ofK1, ofK2, lst1, lst2, lkill, kont_none, kont_some, Int.reduceToNat, List.length_cons, List.length_nil, Nat.reduceAdd, Nat.reduceLeDiff, Nat.zero_le, true_and, and_true, if_true, if_false, ne_eq, Int.reduceEq, Int.reduceNeg, not_false_eq_true, not_true_eq_false, ↓reduceIte, Int.reduceLT, Int.reduceLE, and_self, or_true, true_or, or_false, false_or, false_and, and_false, ah_t_w, ah_m_w, ah_n_w, lst1_0, List.tail_cons, w32_i, zbd, lst2_0, mt_1036a hMd, c72, g3, Int.reduceEq]
        exact hS w cs hd rfl hb hQd hO2
      · rw [if_pos g3] at hS
        simp (disch := omega) only [b_271_207, q_271_308, b_271_308, q_271_362, b_271_362, q_271_386, b_271_386, ↓w_iconst, ↓w_bipush, ↓w_aload_n_0, ↓w_getfield, ↓w_nop, ↓w_ifCond_eq, ↓w_if_icmp_eq, ↓w_ifCond_ne, ↓w_if_icmp_ne, ↓w_ireturn1, ↓w_invokevirtual_0, ↓w_invokevirtual_1, ↓w_invokevirtual_2, stw_0, stw_i, stw_l, stw_r, ofK0, ofK1, ofK2, lst1, lst2, lkill, kont_none, kont_some, Int.reduceToNat, List.length_cons, List.length_nil, Nat.reduceAdd, Nat.reduceLeDiff, Nat.zero_le, true_and, and_true, if_true, if_false, ne_eq, Int.reduceEq, Int.reduceNeg, not_false_eq_true, not_true_eq_false, ↓reduceIte, Int.reduceLT, Int.reduceLE, and_self, or_true, true_or, or_false, false_or, false_and, and_false, ah_t_w, ah_m_w, ah_n_w, lst1_0, List.tail_cons, w32_i, zbd, lst2_0, mt_1036a hMd, c72, g1, g2, g3, h5d, e2d, c_243 hMd h5d]
        exact (hS _ (BX_fail hMd (by decide)) (cb (W := Wlx) (Off_w (Off_w Off_rfl (by unfold Wlx; omega)) (by unfold Wlx; omega)) (by unfold Wlx; omega) hQd.2.2.2.2.2.1 (by omega)) (Off_w (Off_w hO2 (by unfold WQ; omega)) (by unfold WQ; omega))).2
theorem sG (hK2 : ∀ k w cs o h, MQb w0 w cs k o → MQs hm t n k w0 w cs o h → Off WQ h0 h → (∀ tl, wpB (d + 5) 262 2 (some (.inr (.inr 1036)) :: some (.inl 1) :: tl) [] h K1) → K2 (.inl (some (.inl 1))) h) (hw0 : ntw w0) :
    ∀ k w cs o, 0 ≤ k → k ≤ n → SG t n (PAw hm t n w0 d K1 h0) (PEw hm t n w0 d K2 h0) (FFw K1 K2 h0) (PZw hm t n w0 K2 h0) k w cs o → PGw hm t n w0 d K2 h0 k w cs o := by
  intro k w cs o h0' h1' hS hb h hQ hO
  have hle := hb.1
  have ho := hb.2
  have hzc := zct_nn w
  have hX := hQ.1
  have hM := hX.1
  have h5 := hX.2.2.2.2.1
  have hbk := hX.2.2.2.2.2.1
  have hsl := @zsk_le k n t h1'
  have hs : zsk t n (zsk t n k) = zsk t n k := zsk_zsk h0' h1'
  rw [q_271_0]
  simp (disch := omega) only [b_271_0, ↓w_bipush, ↓w_aload_n_0, ↓w_getfield, ↓w_nop, ↓w_if_icmp_eq, ↓w_ifCond_ne, ↓w_if_icmp_ne, ↓w_invokevirtual_0, stw_0, stw_i, stw_l, stw_r, ofK0, ofK1, ofK2, lst1, lst2, lkill, kont_none, kont_some, Int.reduceToNat, List.length_cons, List.length_nil, Nat.reduceAdd, Nat.reduceLeDiff, Nat.zero_le, true_and, and_true, if_true, if_false, ne_eq, Int.reduceEq, Int.reduceNeg, not_false_eq_true, not_true_eq_false, ↓reduceIte, Int.reduceLT, Int.reduceLE, and_self, or_true, true_or, or_false, false_or, false_and, and_false, ah_t_w, ah_m_w, ah_n_w, lst1_0, List.tail_cons, w32_i, zbd, lst2_0, mt_1036a hM, h5]
  refine c_241 hX (fun h1 hX1 hO1 => ?_)
  have hQ1 := MQ_lx hQ hX1 hO1 (fun r i w => Wat_lx w)
  have hO1' : Off WQ h0 h1 := Off_tr hO (Off_mono (fun r i w => Wat_Q w) hO1)
  have hM1 := hX1.1
  have e2 := hX1.2.2.2.1
  have hS1 : SG t n (PAw hm t n w0 d K1 h0) (PEw hm t n w0 d K2 h0) (FFw K1 K2 h0) (PZw hm t n w0 K2 h0) (zsk t n k) w cs o := by
    unfold SG at hS ⊢; rw [hs]; exact hS
  have hb1 : MQb w0 w cs (zsk t n k) o := ⟨by omega, ho⟩
  generalize zsk t n k = p at *
  have c72 := fun {Q} => @c_272 (d + 3) h1 Q p n o t hm w0 w cs hQ1 (by omega)
  by_cases g1 : zB t n p = 41
  · have hlt : p < n := by rcases Int.lt_or_le p n with q | q; exact q; rw [zB_o q] at g1; omega
    have close : zbr w = 20 ∨ zbr w = 23 ∨ zbr w = 24 → wpB (d + 5) 271 43 [some (.inr (.inr 1036))] [] h1 K2 := by
      intro g
      unfold SG at hS1
      rw [hs, if_pos ⟨g1, g⟩] at hS1
      have hX2 := LX_adv hX1 hlt (by rw [g1]; decide)
      have hQ2 := MQ_lx (W := Wat) hQ1 hX2 (Off_w Off_rfl (by unfold Wat; omega)) (fun r i w => Wat_lx w)
      have hO2 : Off WQ h0 (ah_w h1 1036 2 (p + 1)) := Off_w hO1' (by unfold WQ; omega)
      simp (disch := omega) only [q_271_43, b_271_43, ↓w_iconst, ↓w_bipush, ↓w_aload_n_0, ↓w_dup_i, ↓w_dup_a, ↓w_iadd, ↓w_isub, ↓w_getfield, ↓w_putfield_0, ↓w_iaload, ↓w_goto, ↓w_if_icmp_eq, ↓w_if_icmp_ne, ↓w_invokevirtual_0, stw_0, stw_i, stw_l, stw_r, ofK0, ofK1, ofK2, lst1, lst2, lkill, kont_none, kont_some, Int.reduceToNat, List.length_cons, List.length_nil, Nat.reduceAdd, Nat.reduceLeDiff, Nat.zero_le, true_and, and_true, if_true, if_false, ne_eq, Int.reduceEq, Int.reduceNeg, not_false_eq_true, not_true_eq_false, ↓reduceIte, Int.reduceLT, Int.reduceLE, and_self, or_true, true_or, or_false, false_or, false_and, and_false, ah_t_w, ah_m_w, ah_n_w, lst1_0, List.tail_cons, w32_i, zbd, lst2_0, mt_1036a hM1, mt_1118a hM1, mt_1118b hM1, mf_112 hM1, e2]
      refine c_274 hQ2 (by omega) (fun h3 hQ3 hO3 => ?_)
      have hdb := zdb_ct w
      cases ez : (zdb w).2 with
      | nil => exfalso; unfold zbr at g; rw [ez] at g; simp at g
      | cons B rest =>
        have eB : zbr w = B := by unfold zbr; rw [ez]
        rw [ez] at hQ3 hS1 hdb
        rw [eB] at hS1 g
        simp only [List.tail_cons, List.length_cons] at hS1 hdb
        obtain ⟨a0, a1, a2, a3, a4, a5, a6, a7⟩ := hQ3
        have f2 : ah_m h3 1036 113 = ((rest ++ w0).length : Int) + 1 := by rw [a2]; simp
        have f1 : ah_m h3 1118 (rest ++ w0).length = B := a1.1
        have f3 : ((rest ++ w0).length : Int) + 1 - 1 = (rest ++ w0).length := by omega
        have hl2 : ((rest ++ w0).length : Int) = rest.length + w0.length := by simp
        simp only [zoc] at hdb
        rw [if_pos (by omega)] at hdb
        have hzr := zct_nn rest
        have hQ4 : MQs hm t n (p + 1) w0 rest (cs ++ (zdb w).1) (o - 1) (ah_w (ah_w h3 1036 113 (rest ++ w0).length) 1036 114 (o - 1)) := by
          refine ⟨LX_w (LX_w a0 (by omega)) (by omega), Stk_w (Stk_w a1.2 (by omega)) (by omega), ?_, ?_, Cods_w (Cods_w a4 (by omega)) (by omega), ?_, ?_, ?_⟩
          · rw [ah_m_w, if_neg (by omega), ah_m_w, if_pos ⟨rfl, rfl⟩]
          · rw [ah_m_w, if_neg (by omega), ah_m_w, if_neg (by omega)]; exact a3
          · rw [ah_m_w, if_neg (by omega), ah_m_w, if_neg (by omega)]; exact a5
          · rw [ah_m_w, if_pos ⟨rfl, rfl⟩]
          · rw [ah_m_w, if_neg (by omega), ah_m_w, if_neg (by omega)]; exact a7
        have hO4 : Off WQ h0 (ah_w (ah_w h3 1036 113 (rest ++ w0).length) 1036 114 (o - 1)) := Off_w (Off_w (Off_tr hO2 hO3) (by unfold WQ; omega)) (by unfold WQ; omega)
        have e111 : ah_m (ah_w (ah_w h3 1036 113 (rest ++ w0).length) 1036 114 (o - 1)) 1036 111 = (cs ++ (zdb w).1).length := by
          rw [ah_m_w, if_neg (by omega), ah_m_w, if_neg (by omega)]; exact a5
        have hlc : ((cs ++ (zdb w).1).length : Int) = cs.length + (zdb w).1.length := by simp
        -- the end of a part
        have fin : ∀ h5' C tl, MQs hm t n (p + 1) w0 rest C (o - 1) h5' → Off WQ h0 h5' → (C.length : Int) + rest.length + w0.length ≤ p + 1 → PEw hm t n w0 d K2 h0 (p + 1) rest C (o - 1) → wpB (d + 5) 271 115 (some (.inr (.inr 1036)) :: []) tl h5' K2 → True := fun _ _ _ _ _ _ _ _ => trivial
        have fin2 : ∀ h5' C, MQs hm t n (p + 1) w0 rest C (o - 1) h5' → Off WQ h0 h5' → (C.length : Int) + rest.length + w0.length ≤ p + 1 → PEw hm t n w0 d K2 h0 (p + 1) rest C (o - 1) → wpB (d + 5) 271 115 [some (.inr (.inr 1036))] [] h5' K2 := by
          intro h5' C hQ5 hO5 hl5 hE
          have hc := z60_ct rest
          have hz := zct_nn (z60 rest).2
          simp (disch := omega) only [q_271_115, b_271_115, ↓w_aload_n_0, ↓w_goto, ↓w_invokevirtual_0, stw_0, stw_i, stw_l, stw_r, ofK0, ofK1, ofK2, lst1, lst2, lkill, kont_none, kont_some, Int.reduceToNat, List.length_cons, List.length_nil, Nat.reduceAdd, Nat.reduceLeDiff, Nat.zero_le, true_and, and_true, if_true, if_false, ne_eq, Int.reduceEq, Int.reduceNeg, not_false_eq_true, not_true_eq_false, ↓reduceIte, Int.reduceLT, Int.reduceLE, and_self, or_true, true_or, or_false, false_or, false_and, and_false, ah_t_w, ah_m_w, ah_n_w, lst1_0, List.tail_cons, w32_i, zbd, lst2_0, mt_1036a hQ5.1.1]
          refine c_269 hQ5 (by omega) (by omega) (by omega) (fun h6 hQ6 hO6 => ?_)
          simp (disch := omega) only [b_271_115, ↓w_aload_n_0, ↓w_goto, ↓w_invokevirtual_0, stw_0, stw_i, stw_l, stw_r, ofK0, ofK1, ofK2, lst1, lst2, lkill, kont_none, kont_some, Int.reduceToNat, List.length_cons, List.length_nil, Nat.reduceAdd, Nat.reduceLeDiff, Nat.zero_le, true_and, and_true, if_true, if_false, ne_eq, Int.reduceEq, Int.reduceNeg, not_false_eq_true, not_true_eq_false, ↓reduceIte, Int.reduceLT, Int.reduceLE, and_self, or_true, true_or, or_false, false_or, false_and, and_false, ah_t_w, ah_m_w, ah_n_w, lst1_0, List.tail_cons, w32_i, zbd, lst2_0]
          exact hE ⟨by simp only [List.length_append]; omega, by omega, by omega⟩ h6 hQ6 (Off_tr hO5 hO6)
        have hM4 := hQ4.1.1
        by_cases gB : B = 20
        · rw [if_pos gB, List.append_nil] at hS1
          simp (disch := omega) only [b_271_43, ↓w_iconst, ↓w_bipush, ↓w_aload_n_0, ↓w_dup_i, ↓w_dup_a, ↓w_iadd, ↓w_isub, ↓w_getfield, ↓w_putfield_0, ↓w_iaload, ↓w_goto, ↓w_if_icmp_eq, ↓w_if_icmp_ne, ↓w_invokevirtual_0, stw_0, stw_i, stw_l, stw_r, ofK0, ofK1, ofK2, lst1, lst2, lkill, kont_none, kont_some, Int.reduceToNat, List.length_cons, List.length_nil, Nat.reduceAdd, Nat.reduceLeDiff, Nat.zero_le, true_and, and_true, if_true, if_false, ne_eq, Int.reduceEq, Int.reduceNeg, not_false_eq_true, not_true_eq_false, ↓reduceIte, Int.reduceLT, Int.reduceLE, and_self, or_true, true_or, or_false, false_or, false_and, and_false, ah_t_w, ah_m_w, ah_n_w, lst1_0, List.tail_cons, w32_i, zbd, lst2_0, mt_1036a a0.1, mt_1118a a0.1, mt_1118b a0.1, mf_112 a0.1, f1, f2, f3, a6, gB]
          exact fin2 _ _ hQ4 hO4 (by omega) hS1
        · rw [if_neg gB] at hS1
          have hcode : ∀ v, v = B - 18 → wpB (d + 5) 271 112 [some (.inr (.inr 1036))] [.inl v, .inr (.inr 1036)] (ah_w (ah_w h3 1036 113 (rest ++ w0).length) 1036 114 (o - 1)) K2 := by
            intro v ev
            have hQ5 := MQ_code (v := v) hQ4
            simp (disch := omega) only [q_271_112, b_271_112, ↓w_nop, ↓w_invokevirtual_1, stw_0, stw_i, stw_l, stw_r, ofK0, ofK1, ofK2, lst1, lst2, lkill, kont_none, kont_some, Int.reduceToNat, List.length_cons, List.length_nil, Nat.reduceAdd, Nat.reduceLeDiff, Nat.zero_le, true_and, and_true, if_true, if_false, ne_eq, Int.reduceEq, Int.reduceNeg, not_false_eq_true, not_true_eq_false, ↓reduceIte, Int.reduceLT, Int.reduceLE, and_self, or_true, true_or, or_false, false_or, false_and, and_false, ah_t_w, ah_m_w, ah_n_w, lst1_0, List.tail_cons, w32_i, zbd, lst2_0, mt_1036a a0.1, c_268 hM4 e111]
            refine fin2 _ _ hQ5 (Off_w (Off_w hO4 (by unfold WQ; omega)) (by unfold WQ; omega)) (by simp only [List.length_append, List.length_cons, List.length_nil]; omega) ?_
            rw [ev, List.append_assoc]; exact hS1
          by_cases g23 : B = 23
          · simp (disch := omega) only [b_271_43, ↓w_iconst, ↓w_bipush, ↓w_aload_n_0, ↓w_dup_i, ↓w_dup_a, ↓w_iadd, ↓w_isub, ↓w_getfield, ↓w_putfield_0, ↓w_iaload, ↓w_goto, ↓w_if_icmp_eq, ↓w_if_icmp_ne, ↓w_invokevirtual_0, stw_0, stw_i, stw_l, stw_r, ofK0, ofK1, ofK2, lst1, lst2, lkill, kont_none, kont_some, Int.reduceToNat, List.length_cons, List.length_nil, Nat.reduceAdd, Nat.reduceLeDiff, Nat.zero_le, true_and, and_true, if_true, if_false, ne_eq, Int.reduceEq, Int.reduceNeg, not_false_eq_true, not_true_eq_false, ↓reduceIte, Int.reduceLT, Int.reduceLE, and_self, or_true, true_or, or_false, false_or, false_and, and_false, ah_t_w, ah_m_w, ah_n_w, lst1_0, List.tail_cons, w32_i, zbd, lst2_0, mt_1036a a0.1, mt_1118a a0.1, mt_1118b a0.1, mf_112 a0.1, f1, f2, f3, a6, g23, Int.reduceEq]
            exact hcode 5 (by omega)
          · simp (disch := omega) only [b_271_43, q_271_110, b_271_110, ↓w_iconst, ↓w_bipush, ↓w_aload_n_0, ↓w_dup_i, ↓w_dup_a, ↓w_iadd, ↓w_isub, ↓w_getfield, ↓w_putfield_0, ↓w_iaload, ↓w_nop, ↓w_goto, ↓w_if_icmp_eq, ↓w_if_icmp_ne, ↓w_invokevirtual_0, stw_0, stw_i, stw_l, stw_r, ofK0, ofK1, ofK2, lst1, lst2, lkill, kont_none, kont_some, Int.reduceToNat, List.length_cons, List.length_nil, Nat.reduceAdd, Nat.reduceLeDiff, Nat.zero_le, true_and, and_true, if_true, if_false, ne_eq, Int.reduceEq, Int.reduceNeg, not_false_eq_true, not_true_eq_false, ↓reduceIte, Int.reduceLT, Int.reduceLE, and_self, or_true, true_or, or_false, false_or, false_and, and_false, ah_t_w, ah_m_w, ah_n_w, lst1_0, List.tail_cons, w32_i, zbd, lst2_0, mt_1036a a0.1, mt_1118a a0.1, mt_1118b a0.1, mf_112 a0.1, f1, f2, f3, a6, gB, g23]
            exact hcode 6 (by omega)
    by_cases b0 : zbr w = 20
    · simp (disch := omega) only [b_271_0, ↓w_bipush, ↓w_aload_n_0, ↓w_getfield, ↓w_nop, ↓w_if_icmp_eq, ↓w_ifCond_ne, ↓w_if_icmp_ne, ↓w_invokevirtual_0, stw_0, stw_i, stw_l, stw_r, ofK0, ofK1, ofK2, lst1, lst2, lkill, kont_none, kont_some, Int.reduceToNat, List.length_cons, List.length_nil, Nat.reduceAdd, Nat.reduceLeDiff, Nat.zero_le, true_and, and_true, if_true, if_false, ne_eq, Int.reduceEq, Int.reduceNeg, not_false_eq_true, not_true_eq_false, ↓reduceIte, Int.reduceLT, Int.reduceLE, and_self, or_true, true_or, or_false, false_or, false_and, and_false, ah_t_w, ah_m_w, ah_n_w, lst1_0, List.tail_cons, w32_i, zbd, lst2_0, mt_1036a hM1, g1, c72, b0]
      exact close (Or.inl b0)
    · by_cases b3 : zbr w = 23
      · simp (disch := omega) only [b_271_0, ↓w_bipush, ↓w_aload_n_0, ↓w_getfield, ↓w_nop, ↓w_if_icmp_eq, ↓w_ifCond_ne, ↓w_if_icmp_ne, ↓w_invokevirtual_0, stw_0, stw_i, stw_l, stw_r, ofK0, ofK1, ofK2, lst1, lst2, lkill, kont_none, kont_some, Int.reduceToNat, List.length_cons, List.length_nil, Nat.reduceAdd, Nat.reduceLeDiff, Nat.zero_le, true_and, and_true, if_true, if_false, ne_eq, Int.reduceEq, Int.reduceNeg, not_false_eq_true, not_true_eq_false, ↓reduceIte, Int.reduceLT, Int.reduceLE, and_self, or_true, true_or, or_false, false_or, false_and, and_false, ah_t_w, ah_m_w, ah_n_w, lst1_0, List.tail_cons, w32_i, zbd, lst2_0, mt_1036a hM1, g1, c72, b3, Int.reduceEq]
        exact close (Or.inr (Or.inl b3))
      · by_cases b4 : zbr w = 24
        · simp (disch := omega) only [b_271_0, ↓w_bipush, ↓w_aload_n_0, ↓w_getfield, ↓w_nop, ↓w_if_icmp_eq, ↓w_ifCond_ne, ↓w_if_icmp_ne, ↓w_invokevirtual_0, stw_0, stw_i, stw_l, stw_r, ofK0, ofK1, ofK2, lst1, lst2, lkill, kont_none, kont_some, Int.reduceToNat, List.length_cons, List.length_nil, Nat.reduceAdd, Nat.reduceLeDiff, Nat.zero_le, true_and, and_true, if_true, if_false, ne_eq, Int.reduceEq, Int.reduceNeg, not_false_eq_true, not_true_eq_false, ↓reduceIte, Int.reduceLT, Int.reduceLE, and_self, or_true, true_or, or_false, false_or, false_and, and_false, ah_t_w, ah_m_w, ah_n_w, lst1_0, List.tail_cons, w32_i, zbd, lst2_0, mt_1036a hM1, g1, c72, b4, Int.reduceEq]
          exact close (Or.inr (Or.inr b4))
        · simp (disch := omega) only [b_271_0, ↓w_bipush, ↓w_aload_n_0, ↓w_getfield, ↓w_nop, ↓w_if_icmp_eq, ↓w_ifCond_ne, ↓w_if_icmp_ne, ↓w_invokevirtual_0, stw_0, stw_i, stw_l, stw_r, ofK0, ofK1, ofK2, lst1, lst2, lkill, kont_none, kont_some, Int.reduceToNat, List.length_cons, List.length_nil, Nat.reduceAdd, Nat.reduceLeDiff, Nat.zero_le, true_and, and_true, if_true, if_false, ne_eq, Int.reduceEq, Int.reduceNeg, not_false_eq_true, not_true_eq_false, ↓reduceIte, Int.reduceLT, Int.reduceLE, and_self, or_true, true_or, or_false, false_or, false_and, and_false, ah_t_w, ah_m_w, ah_n_w, lst1_0, List.tail_cons, w32_i, zbd, lst2_0, mt_1036a hM1, g1, c72, b0, b3, b4]
          exact G122 hK2 hw0 (by omega) hsl.2 hs hS1 (by omega) hb1 hQ1 hO1'
  · simp (disch := omega) only [b_271_0, ↓w_bipush, ↓w_aload_n_0, ↓w_getfield, ↓w_nop, ↓w_if_icmp_eq, ↓w_ifCond_ne, ↓w_if_icmp_ne, ↓w_invokevirtual_0, stw_0, stw_i, stw_l, stw_r, ofK0, ofK1, ofK2, lst1, lst2, lkill, kont_none, kont_some, Int.reduceToNat, List.length_cons, List.length_nil, Nat.reduceAdd, Nat.reduceLeDiff, Nat.zero_le, true_and, and_true, if_true, if_false, ne_eq, Int.reduceEq, Int.reduceNeg, not_false_eq_true, not_true_eq_false, ↓reduceIte, Int.reduceLT, Int.reduceLE, and_self, or_true, true_or, or_false, false_or, false_and, and_false, ah_t_w, ah_m_w, ah_n_w, lst1_0, List.tail_cons, w32_i, zbd, lst2_0, mt_1036a hM1, g1]
    exact G122 hK2 hw0 (by omega) hsl.2 hs hS1 (by omega) hb1 hQ1 hO1'
end Q6
