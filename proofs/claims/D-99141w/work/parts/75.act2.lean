/-! ===== M: play, tend, days, chance ===== -/
def zdc (T : Int → Int → Int) (D0 D1 : Int) : Nat → (Int → Int) → Int → (Int → Int) × Int
  | 0, nw, a => (nw, a)
  | j + 1, nw, a => zdc T D0 D1 j (zdy T nw 0 (zto T D0 D1 nw)) (if (zto T D0 D1 nw).1 = -1 then a else a + 1)
/-- one day by chance: the choice, seeds, whether asleep -/
def zcd (T : Int → Int → Int) (D0 D1 : Int) (nw : Int → Int) (s : Int) : (Int × Int × Int) × Int × Bool :=
  if (zcr T nw || (zmv T nw).isEmpty) = true then (zto T D0 D1 nw, s, false)
  else if zsd s / 64 % 100 < T 1079 3 then (zpc T nw (zsd (zsd s) / 64 % (zall T nw : Int)) 0 0, zsd (zsd s), true) else (zto T D0 D1 nw, zsd s, false)
def zchn (T : Int → Int → Int) (D0 D1 : Int) : Nat → (Int → Int) → Int → Int → (Int → Int) × Int × Int
  | 0, nw, s, a => (nw, s, a)
  | j + 1, nw, s, a => zchn T D0 D1 j (zdy T nw 0 (zcd T D0 D1 nw s).1) (zcd T D0 D1 nw s).2.1 (if (zcd T D0 D1 nw s).2.2 = true then a + 1 else a)
def WA (r i : Int) : Prop := WD r i ∨ WU r i
section ACT2
variable {d : Nat} {h h0 : AH} {Q : QQ} {x y z m k s l w a b v n t p th D0 D1 f fr : Int} {T : Int → Int → Int} {nw g tp sr : Int → Int} {c : Int × Int × Int} {ul : List (Int → Int)}
set_option maxHeartbeats 2000000
theorem WD_U {r i : Int} (w : WD r i) : ¬ WU r i := by unfold WD Wc Wy Wq at w; unfold WU; omega
theorem c_360 (hG : MG T nw h) (hF : FV nw) (hH : HV T) (hX : MX h) (hU : UR h ul) (hd : nw 0 ≤ 999)
    (hQ0 : ∀ h', (zpc T nw k 0 0).1 = -1 ∨ nw 0 = 999 → MG T nw h' → ah_m h' 1038 = (fun i => if i = 2 then w32 (ah_m h 1038 2 + 1) else ah_m h 1038 i) → Off (fun r i => Wh r i ∨ (r = 1038 ∧ i = 2)) h h' → Q (.inl (some (.inl (-1)))) h')
    (hQ1 : ∀ h', ¬ ((zpc T nw k 0 0).1 = -1 ∨ nw 0 = 999) → MG T (zdy T nw 0 (zpc T nw k 0 0)) h' → FV (zdy T nw 0 (zpc T nw k 0 0)) → UR h' ((nw :: ul).take 20) → Off WA h h' → Q (.inl (some (.inl (ztl' T nw (zpc T nw k 0 0).2.2)))) h') : wpC (d + 8) 360 [.inr (.inr 1036), .inl k] h Q := by
  have hT := hG.2.2.2.1
  rw [wpC_B]; refine ⟨⟨Nat.zero_lt_succ _, Nat.le_of_ble_eq_true rfl⟩, ?_⟩; simp only [lent]
  simp (disch := omega) only [q_360_0, b_360_0, ↓w_iconst, ↓w_sipush, ↓w_aload_n_0, ↓w_iload_n_1, ↓w_getfield, ↓w_iaload, ↓w_nop, ↓w_if_icmp_eq, ↓w_if_icmp_ne, ↓w_invokevirtual_1, stw_0, stw_i, stw_l, stw_r, ofK0, ofK1, ofK2, lst1, lst2, lkill, kont_none, kont_some, Int.reduceToNat, List.length_cons, List.length_nil, Nat.reduceAdd, Nat.reduceLeDiff, Nat.zero_le, true_and, and_true, if_true, if_false, ne_eq, Int.reduceEq, Int.reduceNeg, not_false_eq_true, not_true_eq_false, ↓reduceIte, Int.reduceLT, Int.reduceLE, and_self, or_true, true_or, or_false, false_or, false_and, and_false, ah_t_w, ah_m_w, ah_n_w, lst1_0, List.tail_cons, w32_i, zbd, lst2_0, mt_1036a hG.1, mt_1083a hG.1, mt_1083b hG.1, mf_62 hG.1, g_1083 hG]
  refine c_308 hG (fun h1 hG1 hO1 hch => ?_)
  have hab := @zpc_ab k (ah_m h 1036 69) (ah_m h 1036 70) T nw
  have hv := @zpc_v k (ah_m h 1036 69) (ah_m h 1036 70) T nw hT
  have edy : zdy T nw 0 (zpc T nw k (ah_m h 1036 69) (ah_m h 1036 70)) = zdy T nw 0 (zpc T nw k 0 0) := zdy_pc
  generalize zpc T nw k (ah_m h 1036 69) (ah_m h 1036 70) = c at hch hab hv edy
  generalize zpc T nw k 0 0 = c0 at *
  have e68 : ah_m h1 1036 68 = c.1 := congrArg Prod.fst hch
  have no : ∀ tl, c0.1 = -1 ∨ nw 0 = 999 → wpB (d + 7) 360 25 (some (.inr (.inr 1036)) :: tl) [] h1 Q := by
    intro tl e
    have e38 : ∀ i, ah_m h1 1038 i = ah_m h 1038 i := fun i => hO1.2 _ _ (by unfold Wh; omega)
    simp (disch := omega) only [q_360_25, b_360_25, ↓w_iconst, ↓w_aload_n_0, ↓w_ireturn0, ↓w_invokevirtual_1, stw_0, stw_i, stw_l, stw_r, ofK0, ofK1, ofK2, lst1, lst2, lkill, kont_none, kont_some, Int.reduceToNat, List.length_cons, List.length_nil, Nat.reduceAdd, Nat.reduceLeDiff, Nat.zero_le, true_and, and_true, if_true, if_false, ne_eq, Int.reduceEq, Int.reduceNeg, not_false_eq_true, not_true_eq_false, ↓reduceIte, Int.reduceLT, Int.reduceLE, and_self, or_true, true_or, or_false, false_or, false_and, and_false, ah_t_w, ah_m_w, ah_n_w, lst1_0, List.tail_cons, w32_i, zbd, lst2_0, mt_1036a hG1.1, c_350 hG1.1, e38]
    refine hQ0 _ e (MG_w' hG1 (by omega)) ?_ (Off_w (Off_mono (fun r i w => Or.inl w) hO1) (by omega))
    rw [ah_m_wr]; funext i; rw [e38]
  by_cases g1 : c.1 = -1
  · have g2 : c0.1 = -1 := by
      rcases hab with q | q
      · exact q.2
      · rw [← q]; exact g1
    simp (disch := omega) only [b_360_0, ↓w_iconst, ↓w_sipush, ↓w_aload_n_0, ↓w_iload_n_1, ↓w_getfield, ↓w_iaload, ↓w_nop, ↓w_if_icmp_eq, ↓w_if_icmp_ne, ↓w_invokevirtual_1, stw_0, stw_i, stw_l, stw_r, ofK0, ofK1, ofK2, lst1, lst2, lkill, kont_none, kont_some, Int.reduceToNat, List.length_cons, List.length_nil, Nat.reduceAdd, Nat.reduceLeDiff, Nat.zero_le, true_and, and_true, if_true, if_false, ne_eq, Int.reduceEq, Int.reduceNeg, not_false_eq_true, not_true_eq_false, ↓reduceIte, Int.reduceLT, Int.reduceLE, and_self, or_true, true_or, or_false, false_or, false_and, and_false, ah_t_w, ah_m_w, ah_n_w, lst1_0, List.tail_cons, w32_i, zbd, lst2_0, mt_1036a hG1.1, mt_1083a hG1.1, mt_1083b hG1.1, mf_62 hG1.1, g_1083 hG1, e68, g1]
    exact no _ (Or.inl g2)
  · have g2 : c = c0 := by
      rcases hab with q | q
      · exact absurd q.1 g1
      · exact q
    subst g2
    by_cases g3 : nw 0 = 999
    · simp (disch := omega) only [b_360_0, ↓w_iconst, ↓w_sipush, ↓w_aload_n_0, ↓w_iload_n_1, ↓w_getfield, ↓w_iaload, ↓w_nop, ↓w_if_icmp_eq, ↓w_if_icmp_ne, ↓w_invokevirtual_1, stw_0, stw_i, stw_l, stw_r, ofK0, ofK1, ofK2, lst1, lst2, lkill, kont_none, kont_some, Int.reduceToNat, List.length_cons, List.length_nil, Nat.reduceAdd, Nat.reduceLeDiff, Nat.zero_le, true_and, and_true, if_true, if_false, ne_eq, Int.reduceEq, Int.reduceNeg, not_false_eq_true, not_true_eq_false, ↓reduceIte, Int.reduceLT, Int.reduceLE, and_self, or_true, true_or, or_false, false_or, false_and, and_false, ah_t_w, ah_m_w, ah_n_w, lst1_0, List.tail_cons, w32_i, zbd, lst2_0, mt_1036a hG1.1, mt_1083a hG1.1, mt_1083b hG1.1, mf_62 hG1.1, g_1083 hG1, e68, g1, g3]
      exact no _ (Or.inr g3)
    · simp (disch := omega) only [b_360_0, q_360_31, b_360_31, ↓w_iconst, ↓w_sipush, ↓w_aload_n_0, ↓w_iload_n_1, ↓w_getfield, ↓w_iaload, ↓w_nop, ↓w_if_icmp_eq, ↓w_if_icmp_ne, ↓w_ireturn0, ↓w_invokevirtual_0, ↓w_invokevirtual_1, stw_0, stw_i, stw_l, stw_r, ofK0, ofK1, ofK2, lst1, lst2, lkill, kont_none, kont_some, Int.reduceToNat, List.length_cons, List.length_nil, Nat.reduceAdd, Nat.reduceLeDiff, Nat.zero_le, true_and, and_true, if_true, if_false, ne_eq, Int.reduceEq, Int.reduceNeg, not_false_eq_true, not_true_eq_false, ↓reduceIte, Int.reduceLT, Int.reduceLE, and_self, or_true, true_or, or_false, false_or, false_and, and_false, ah_t_w, ah_m_w, ah_n_w, lst1_0, List.tail_cons, w32_i, zbd, lst2_0, mt_1036a hG1.1, mt_1083a hG1.1, mt_1083b hG1.1, mf_62 hG1.1, g_1083 hG1, e68, g1, g3]
      have hU1 : UR h1 ul := UR_off hU hO1 (fun r i w => by unfold Wh at w; unfold WU; omega)
      refine c_361 hG1 hU1 (fun h2 hG2 hU2 hO2 => ?_)
      have hch2 : zch h2 = c := by
        rw [← hch]; unfold zch
        rw [hO2.2 _ _ (by unfold WU; omega), hO2.2 _ _ (by unfold WU; omega), hO2.2 _ _ (by unfold WU; omega)]
      have e75 : ah_m h2 1036 75 = 0 := by rw [hO2.2 _ _ (by unfold WU; omega), hO1.2 _ _ (by unfold Wh; omega)]; exact hX.1
      simp (disch := omega) only [b_360_31, ↓w_aload_n_0, ↓w_getfield, ↓w_ireturn0, ↓w_invokevirtual_0, stw_0, stw_i, stw_l, stw_r, ofK0, ofK1, ofK2, lst1, lst2, lkill, kont_none, kont_some, Int.reduceToNat, List.length_cons, List.length_nil, Nat.reduceAdd, Nat.reduceLeDiff, Nat.zero_le, true_and, and_true, if_true, if_false, ne_eq, Int.reduceEq, Int.reduceNeg, not_false_eq_true, not_true_eq_false, ↓reduceIte, Int.reduceLT, Int.reduceLE, and_self, or_true, true_or, or_false, false_or, false_and, and_false, ah_t_w, ah_m_w, ah_n_w, lst1_0, List.tail_cons, w32_i, zbd, lst2_0, mt_1036a hG2.1]
      refine c_332 hG2 hH hF (by omega) e75 hch2 hv (fun h3 hG3 hF3 hO3 e77 => ?_)
      simp (disch := omega) only [b_360_31, ↓w_aload_n_0, ↓w_getfield, ↓w_ireturn0, ↓w_invokevirtual_0, stw_0, stw_i, stw_l, stw_r, ofK0, ofK1, ofK2, lst1, lst2, lkill, kont_none, kont_some, Int.reduceToNat, List.length_cons, List.length_nil, Nat.reduceAdd, Nat.reduceLeDiff, Nat.zero_le, true_and, and_true, if_true, if_false, ne_eq, Int.reduceEq, Int.reduceNeg, not_false_eq_true, not_true_eq_false, ↓reduceIte, Int.reduceLT, Int.reduceLE, and_self, or_true, true_or, or_false, false_or, false_and, and_false, ah_t_w, ah_m_w, ah_n_w, lst1_0, List.tail_cons, w32_i, zbd, lst2_0, mt_1036a hG3.1, e77 g1]
      refine hQ1 h3 (fun q => q.elim g1 g3) hG3 hF3 (UR_off hU2 hO3 (fun r i w => WD_U (Or.inr w))) ?_
      exact Off_tr (Off_mono (fun r i w => Or.inl (Or.inl (by unfold Wh at w; unfold Wc; omega))) hO1) (Off_tr (Off_mono (fun r i w => Or.inr w) hO2) (Off_mono (fun r i w => Or.inl (Or.inr w)) hO3))
theorem c_362 (hG : MG T nw h) (hF : FV nw) (hU : UR h ul)
    (hQ0 : ¬ ((0 ≤ f ∧ f < T 1072 5) ∧ (1 ≤ a ∧ a ≤ 99)) → Q (.inl (some (.inl (-1)))) (ah_w h 1038 2 (w32 (ah_m h 1038 2 + 1))))
    (hQ1 : ∀ h', ((0 ≤ f ∧ f < T 1072 5) ∧ (1 ≤ a ∧ a ≤ 99)) → MG T (ztnd nw f a) h' → UR h' ((nw :: ul).take 20) → Off (fun r i => r = 1083 ∨ WU r i) h h' → Q (.inl (some (.inl (ztnd nw f a (18 + f))))) h') : wpC (d + 3) 362 [.inr (.inr 1036), .inl f, .inl a] h Q := by
  have hT := hG.2.2.2.1
  have h5 := hT.2.2.1
  have no : ∀ tl, ¬ ((0 ≤ f ∧ f < T 1072 5) ∧ (1 ≤ a ∧ a ≤ 99)) → wpB (d + 2) 362 20 (some (.inr (.inr 1036)) :: tl) [] h Q := by
    intro tl e
    simp (disch := omega) only [q_362_20, b_362_20, ↓w_iconst, ↓w_aload_n_0, ↓w_ireturn0, ↓w_invokevirtual_1, stw_0, stw_i, stw_l, stw_r, ofK0, ofK1, ofK2, lst1, lst2, lkill, kont_none, kont_some, Int.reduceToNat, List.length_cons, List.length_nil, Nat.reduceAdd, Nat.reduceLeDiff, Nat.zero_le, true_and, and_true, if_true, if_false, ne_eq, Int.reduceEq, Int.reduceNeg, not_false_eq_true, not_true_eq_false, ↓reduceIte, Int.reduceLT, Int.reduceLE, and_self, or_true, true_or, or_false, false_or, false_and, and_false, ah_t_w, ah_m_w, ah_n_w, lst1_0, List.tail_cons, w32_i, zbd, lst2_0, mt_1036a hG.1, c_350 hG.1]
    exact hQ0 e
  rw [wpC_B]; refine ⟨⟨Nat.zero_lt_succ _, Nat.le_of_ble_eq_true rfl⟩, ?_⟩; simp only [lent]
  by_cases e1 : 0 ≤ f ∧ f < T 1072 5
  · by_cases e2 : 1 ≤ a ∧ a ≤ 99
    · simp (disch := omega) only [q_362_0, b_362_0, q_362_26, b_362_26, ↓w_bipush, ↓w_sipush, ↓w_lconst, ↓w_ldc2_w, ↓w_aload_n_0, ↓w_iload_n_1, ↓w_iload_n_2, ↓w_iload_n_3, ↓w_istore_n_3, ↓w_iadd, ↓w_i2l, ↓w_getfield, ↓w_iaload, ↓w_nop, ↓w_goto, ↓w_ifCond_eq, ↓w_ifCond_ne, ↓w_if_icmp_le, ↓w_invokevirtual_0, ↓w_invokevirtual_1, ↓w_invokestatic_3, stw_0, stw_i, stw_l, stw_r, ofK0, ofK1, ofK2, lst1, lst2, lkill, kont_none, kont_some, Int.reduceToNat, List.length_cons, List.length_nil, Nat.reduceAdd, Nat.reduceLeDiff, Nat.zero_le, true_and, and_true, if_true, if_false, ne_eq, Int.reduceEq, Int.reduceNeg, not_false_eq_true, not_true_eq_false, ↓reduceIte, Int.reduceLT, Int.reduceLE, and_self, or_true, true_or, or_false, false_or, false_and, and_false, ah_t_w, ah_m_w, ah_n_w, lst1_0, List.tail_cons, w32_i, zbd, lst2_0, mt_1036a hG.1, mt_1083a hG.1, mt_1083b hG.1, mf_62 hG.1, g_1083 hG, c_305 hG, c_246, e1, e2]
      have hf := hF.2.1 f e1.1 (by omega)
      refine c_361 hG hU (fun h2 hG2 hU2 hO2 => ?_)
      have fin : ∀ v, v = ztnd nw f a (18 + f) → Q (.inl (some (.inl v))) (ah_w h2 1083 (18 + f) v) := by
        intro v ev
        have hO3 : Off W83 h2 (ah_w h2 1083 (18 + f) v) := Off_w Off_rfl rfl
        have e3 : ah_m (ah_w h2 1083 (18 + f) v) 1083 = ztnd nw f a := by
          rw [ah_m_wr, g_1083 hG2]; funext i; rw [ev]; unfold ztnd
          by_cases q : i = 18 + f
          · rw [if_pos q, if_pos rfl, if_pos q]
          · rw [if_neg q, if_neg q]
        rw [ev] at *
        refine hQ1 _ ⟨e1, e2⟩ (MG_83 hG2 e3 (fun i a b => by unfold ztnd; rw [if_neg (by omega)]) hO3) (UR_off hU2 hO3 (fun r i w => by unfold W83 at w; unfold WU; omega)) (Off_tr (Off_mono (fun r i w => Or.inr w) hO2) (Off_mono (fun r i w => Or.inl w) hO3))
      unfold ztnd at fin
      rw [if_pos rfl] at fin
      by_cases g : 999 < nw (18 + f) + a
      · rw [if_pos g] at fin
        simp (disch := omega) only [b_362_26, q_362_64, b_362_64, ↓w_bipush, ↓w_sipush, ↓w_aload_n_0, ↓w_iload_n_1, ↓w_iload_n_2, ↓w_iload_n_3, ↓w_istore_n_3, ↓w_iadd, ↓w_getfield, ↓w_iaload, ↓w_iastore, ↓w_goto, ↓w_if_icmp_le, ↓w_ireturn0, ↓w_invokevirtual_0, stw_0, stw_i, stw_l, stw_r, ofK0, ofK1, ofK2, lst1, lst2, lkill, kont_none, kont_some, Int.reduceToNat, List.length_cons, List.length_nil, Nat.reduceAdd, Nat.reduceLeDiff, Nat.zero_le, true_and, and_true, if_true, if_false, ne_eq, Int.reduceEq, Int.reduceNeg, not_false_eq_true, not_true_eq_false, ↓reduceIte, Int.reduceLT, Int.reduceLE, and_self, or_true, true_or, or_false, false_or, false_and, and_false, ah_t_w, ah_m_w, ah_n_w, lst1_0, List.tail_cons, w32_i, zbd, lst2_0, mt_1036a hG2.1, mt_1083a hG2.1, mt_1083b hG2.1, mf_62 hG2.1, g_1083 hG2, g]
        exact fin _ rfl
      · rw [if_neg g] at fin
        simp (disch := omega) only [b_362_26, q_362_63, b_362_63, q_362_64, b_362_64, ↓w_bipush, ↓w_sipush, ↓w_aload_n_0, ↓w_iload_n_1, ↓w_iload_n_2, ↓w_iload_n_3, ↓w_istore_n_3, ↓w_iadd, ↓w_getfield, ↓w_iaload, ↓w_iastore, ↓w_nop, ↓w_goto, ↓w_if_icmp_le, ↓w_ireturn0, ↓w_invokevirtual_0, stw_0, stw_i, stw_l, stw_r, ofK0, ofK1, ofK2, lst1, lst2, lkill, kont_none, kont_some, Int.reduceToNat, List.length_cons, List.length_nil, Nat.reduceAdd, Nat.reduceLeDiff, Nat.zero_le, true_and, and_true, if_true, if_false, ne_eq, Int.reduceEq, Int.reduceNeg, not_false_eq_true, not_true_eq_false, ↓reduceIte, Int.reduceLT, Int.reduceLE, and_self, or_true, true_or, or_false, false_or, false_and, and_false, ah_t_w, ah_m_w, ah_n_w, lst1_0, List.tail_cons, w32_i, zbd, lst2_0, mt_1036a hG2.1, mt_1083a hG2.1, mt_1083b hG2.1, mf_62 hG2.1, g_1083 hG2, g]
        exact fin _ rfl
    · simp (disch := omega) only [q_362_0, b_362_0, ↓w_lconst, ↓w_ldc2_w, ↓w_aload_n_0, ↓w_iload_n_1, ↓w_iload_n_2, ↓w_i2l, ↓w_nop, ↓w_ifCond_eq, ↓w_ifCond_ne, ↓w_invokevirtual_1, ↓w_invokestatic_3, stw_0, stw_i, stw_l, stw_r, ofK0, ofK1, ofK2, lst1, lst2, lkill, kont_none, kont_some, Int.reduceToNat, List.length_cons, List.length_nil, Nat.reduceAdd, Nat.reduceLeDiff, Nat.zero_le, true_and, and_true, if_true, if_false, ne_eq, Int.reduceEq, Int.reduceNeg, not_false_eq_true, not_true_eq_false, ↓reduceIte, Int.reduceLT, Int.reduceLE, and_self, or_true, true_or, or_false, false_or, false_and, and_false, ah_t_w, ah_m_w, ah_n_w, lst1_0, List.tail_cons, w32_i, zbd, lst2_0, mt_1036a hG.1, c_305 hG, c_246, e1, if_neg e2]
      exact no _ (fun q => e2 q.2)
  · simp (disch := omega) only [q_362_0, b_362_0, ↓w_lconst, ↓w_ldc2_w, ↓w_aload_n_0, ↓w_iload_n_1, ↓w_iload_n_2, ↓w_i2l, ↓w_nop, ↓w_ifCond_eq, ↓w_ifCond_ne, ↓w_invokevirtual_1, ↓w_invokestatic_3, stw_0, stw_i, stw_l, stw_r, ofK0, ofK1, ofK2, lst1, lst2, lkill, kont_none, kont_some, Int.reduceToNat, List.length_cons, List.length_nil, Nat.reduceAdd, Nat.reduceLeDiff, Nat.zero_le, true_and, and_true, if_true, if_false, ne_eq, Int.reduceEq, Int.reduceNeg, not_false_eq_true, not_true_eq_false, ↓reduceIte, Int.reduceLT, Int.reduceLE, and_self, or_true, true_or, or_false, false_or, false_and, and_false, ah_t_w, ah_m_w, ah_n_w, lst1_0, List.tail_cons, w32_i, zbd, lst2_0, mt_1036a hG.1, c_305 hG, c_246, if_neg e1]
    exact no _ (fun q => e1 q.1)
theorem l_363 (hH : HV T) (hX : MX h) (hL : LV T) (hn : 0 ≤ n ∧ n ≤ 30) {R : (Int → Int) × Int} (hQ : ∀ h', MG T R.1 h' → FV R.1 → R.1 0 ≤ 999 → Off WD h h' → Q (.inl (some (.inl R.2))) h') :
    ∀ (j : Nat) (k a : Int) (nw : Int → Int) h', 0 ≤ k → k + j = n → 0 ≤ a → a ≤ k → MG T nw h' → FV nw → nw 0 + j ≤ 999 → Off WD h h' → zdc T (T 1074 6) (T 1074 7) j nw a = R → wpB (d + 10) 363 25 [some (.inr (.inr 1036)), some (.inl n), some (.inl a), some (.inl k)] [] h' Q := by
  intro j
  induction j with
  | zero =>
    intro k a nw h' k0 k1 a0 a1 hG hF hd hO hR
    have hlt : ¬ k < n := by omega
    simp (disch := omega) only [q_363_25, b_363_25, q_363_55, b_363_55, ↓w_iconst, ↓w_aload_n_0, ↓w_iload_n_1, ↓w_iload_n_2, ↓w_iinc_2, ↓w_iload_n_3, ↓w_getfield, ↓w_nop, ↓w_if_icmp_eq, ↓w_if_icmp_ge, ↓w_ireturn0, ↓w_invokevirtual_0, stw_0, stw_i, stw_l, stw_r, ofK0, ofK1, ofK2, lst1, lst2, lkill, kont_none, kont_some, Int.reduceToNat, List.length_cons, List.length_nil, Nat.reduceAdd, Nat.reduceLeDiff, Nat.zero_le, true_and, and_true, if_true, if_false, ne_eq, Int.reduceEq, Int.reduceNeg, not_false_eq_true, not_true_eq_false, ↓reduceIte, Int.reduceLT, Int.reduceLE, and_self, or_true, true_or, or_false, false_or, false_and, and_false, ah_t_w, ah_m_w, ah_n_w, lst1_0, List.tail_cons, w32_i, zbd, lst2_0, mt_1036a hG.1, hlt]
    simp only [zdc] at hR
    subst hR
    exact hQ _ hG hF (by simp at hd; exact hd) hO
  | succ j ih =>
    intro k a nw h' k0 k1 a0 a1 hG hF hd hO hR
    have hlt : k < n := by omega
    have hT := hG.2.2.2.1
    have hs := hG.2.2.2.2.2.2.2
    have hdd : zdd T h' = zdd T h := zdd_off hO (fun i a => by unfold WD Wc Wy Wq; omega)
    have hz := @zdd_x h T hX
    have hDD : zdd T h' (nw 1) = if nw 1 = 0 then T 1074 6 else T 1074 7 := by
      rw [hdd]; rcases hs with e | e <;> rw [e]
      · rw [if_pos rfl]; exact hz.1
      · rw [if_neg (by decide)]; exact hz.2
    have hb : 1 ≤ (if nw 1 = 0 then T 1074 6 else T 1074 7) ∧ (if nw 1 = 0 then T 1074 6 else T 1074 7) ≤ 3 := by
      have := hL.1; have := hL.2; split <;> omega
    rw [q_363_25]
    simp (disch := omega) only [b_363_25, ↓w_iconst, ↓w_aload_n_0, ↓w_iload_n_1, ↓w_iinc_2, ↓w_iload_n_3, ↓w_getfield, ↓w_nop, ↓w_if_icmp_eq, ↓w_if_icmp_ge, ↓w_invokevirtual_0, stw_0, stw_i, stw_l, stw_r, ofK0, ofK1, ofK2, lst1, lst2, lkill, kont_none, kont_some, Int.reduceToNat, List.length_cons, List.length_nil, Nat.reduceAdd, Nat.reduceLeDiff, Nat.zero_le, true_and, and_true, if_true, if_false, ne_eq, Int.reduceEq, Int.reduceNeg, not_false_eq_true, not_true_eq_false, ↓reduceIte, Int.reduceLT, Int.reduceLE, and_self, or_true, true_or, or_false, false_or, false_and, and_false, ah_t_w, ah_m_w, ah_n_w, lst1_0, List.tail_cons, w32_i, zbd, lst2_0, mt_1036a hG.1, hlt]
    refine c_331 hG hDD hb.1 hb.2 (fun h1 hG1 hO1 hch => ?_)
    generalize ah_m h' 1036 69 = a1 at hch
    generalize ah_m h' 1036 70 = b1 at hch
    have hv := @zbe_v a1 b1 T nw ((if nw 1 = 0 then T 1074 6 else T 1074 7) - 1).toNat hT
    have hO1' : Off WD h h1 := Off_tr hO (Off_mono (fun r i w => Or.inl w) hO1)
    have hab := @zbe_ab a1 b1 T nw ((if nw 1 = 0 then T 1074 6 else T 1074 7) - 1).toNat
    have ezt : zto T (T 1074 6) (T 1074 7) nw = zbe T nw ((if nw 1 = 0 then T 1074 6 else T 1074 7) - 1).toNat 0 0 := rfl
    rw [← ezt] at hab
    have edy : zdy T nw 0 (zbe T nw ((if nw 1 = 0 then T 1074 6 else T 1074 7) - 1).toNat a1 b1) = zdy T nw 0 (zto T (T 1074 6) (T 1074 7) nw) := zdy_ab
    generalize zbe T nw ((if nw 1 = 0 then T 1074 6 else T 1074 7) - 1).toNat a1 b1 = c at hch hv hab edy
    have e68 : ah_m h1 1036 68 = c.1 := congrArg Prod.fst hch
    have f75 : ah_m h1 1036 75 = 0 := by rw [hO1'.2 _ _ (by unfold WD Wc Wy Wq; omega)]; exact hX.1
    simp only [zdc] at hR
    have fin : ∀ a2, 0 ≤ a2 → a2 ≤ k + 1 → zdc T (T 1074 6) (T 1074 7) j (zdy T nw 0 (zto T (T 1074 6) (T 1074 7) nw)) a2 = R → wpB (d + 10) 363 45 [some (.inr (.inr 1036)), some (.inl n), some (.inl a2), some (.inl k)] [] h1 Q := by
      intro a2 c0 c1 hR2
      simp (disch := omega) only [q_363_45, b_363_45, ↓w_aload_n_0, ↓w_iinc_3, ↓w_goto, ↓w_invokevirtual_0, stw_0, stw_i, stw_l, stw_r, ofK0, ofK1, ofK2, lst1, lst2, lkill, kont_none, kont_some, Int.reduceToNat, List.length_cons, List.length_nil, Nat.reduceAdd, Nat.reduceLeDiff, Nat.zero_le, true_and, and_true, if_true, if_false, ne_eq, Int.reduceEq, Int.reduceNeg, not_false_eq_true, not_true_eq_false, ↓reduceIte, Int.reduceLT, Int.reduceLE, and_self, or_true, true_or, or_false, false_or, false_and, and_false, ah_t_w, ah_m_w, ah_n_w, lst1_0, List.tail_cons, w32_i, zbd, lst2_0, mt_1036a hG1.1]
      refine c_332 hG1 hH hF (by omega) f75 hch hv (fun h3 hG3 hF3 hO3 _ => ?_)
      have ez := @zdy_0 h1 0 T nw _ hG1 hF hv
      rw [edy] at hG3 hF3 ez
      simp (disch := omega) only [b_363_45, ↓w_aload_n_0, ↓w_iinc_3, ↓w_goto, ↓w_invokevirtual_0, stw_0, stw_i, stw_l, stw_r, ofK0, ofK1, ofK2, lst1, lst2, lkill, kont_none, kont_some, Int.reduceToNat, List.length_cons, List.length_nil, Nat.reduceAdd, Nat.reduceLeDiff, Nat.zero_le, true_and, and_true, if_true, if_false, ne_eq, Int.reduceEq, Int.reduceNeg, not_false_eq_true, not_true_eq_false, ↓reduceIte, Int.reduceLT, Int.reduceLE, and_self, or_true, true_or, or_false, false_or, false_and, and_false, ah_t_w, ah_m_w, ah_n_w, lst1_0, List.tail_cons, w32_i, zbd, lst2_0]
      exact ih (k + 1) _ _ _ (by omega) (by omega) c0 c1 hG3 hF3 (by rw [ez]; omega) (Off_tr hO1' (Off_mono (fun r i w => Or.inr w) hO3)) hR2
    by_cases g : c.1 = -1
    · have g' : (zto T (T 1074 6) (T 1074 7) nw).1 = -1 := by
        rcases hab with q | q
        · exact q.2
        · rw [← q]; exact g
      rw [if_pos g'] at hR
      simp (disch := omega) only [b_363_25, ↓w_iconst, ↓w_aload_n_0, ↓w_iload_n_1, ↓w_iinc_2, ↓w_iload_n_3, ↓w_getfield, ↓w_nop, ↓w_if_icmp_eq, ↓w_if_icmp_ge, ↓w_invokevirtual_0, stw_0, stw_i, stw_l, stw_r, ofK0, ofK1, ofK2, lst1, lst2, lkill, kont_none, kont_some, Int.reduceToNat, List.length_cons, List.length_nil, Nat.reduceAdd, Nat.reduceLeDiff, Nat.zero_le, true_and, and_true, if_true, if_false, ne_eq, Int.reduceEq, Int.reduceNeg, not_false_eq_true, not_true_eq_false, ↓reduceIte, Int.reduceLT, Int.reduceLE, and_self, or_true, true_or, or_false, false_or, false_and, and_false, ah_t_w, ah_m_w, ah_n_w, lst1_0, List.tail_cons, w32_i, zbd, lst2_0, mt_1036a hG1.1, e68, g]
      exact fin a a0 (by omega) hR
    · have g' : c = zto T (T 1074 6) (T 1074 7) nw := by
        rcases hab with q | q
        · exact absurd q.1 g
        · exact q
      rw [g'] at g
      rw [if_neg g] at hR
      rw [← g'] at g
      simp (disch := omega) only [b_363_25, ↓w_iconst, ↓w_aload_n_0, ↓w_iload_n_1, ↓w_iinc_2, ↓w_iload_n_3, ↓w_getfield, ↓w_nop, ↓w_if_icmp_eq, ↓w_if_icmp_ge, ↓w_invokevirtual_0, stw_0, stw_i, stw_l, stw_r, ofK0, ofK1, ofK2, lst1, lst2, lkill, kont_none, kont_some, Int.reduceToNat, List.length_cons, List.length_nil, Nat.reduceAdd, Nat.reduceLeDiff, Nat.zero_le, true_and, and_true, if_true, if_false, ne_eq, Int.reduceEq, Int.reduceNeg, not_false_eq_true, not_true_eq_false, ↓reduceIte, Int.reduceLT, Int.reduceLE, and_self, or_true, true_or, or_false, false_or, false_and, and_false, ah_t_w, ah_m_w, ah_n_w, lst1_0, List.tail_cons, w32_i, zbd, lst2_0, mt_1036a hG1.1, e68, g]
      exact fin (a + 1) (by omega) (by omega) hR
theorem c_363 (hG : MG T nw h) (hF : FV nw) (hH : HV T) (hL : ah_m h 1036 58 ≠ 0 → LV T) (hX : MX h) (hU : UR h ul)
    (hQ0 : ¬ zahd nw (ah_m h 1036 58) n 1 30 → Q (.inl (some (.inl (-1)))) (ah_w h 1038 3 (w32 (ah_m h 1038 3 + 1))))
    (hQ1 : ∀ h', zahd nw (ah_m h 1036 58) n 1 30 → MG T (zdc T (T 1074 6) (T 1074 7) n.toNat nw 0).1 h' → FV (zdc T (T 1074 6) (T 1074 7) n.toNat nw 0).1 → (zdc T (T 1074 6) (T 1074 7) n.toNat nw 0).1 0 ≤ 999 → UR h' ((nw :: ul).take 20) → Off WA h h' → Q (.inl (some (.inl (zdc T (T 1074 6) (T 1074 7) n.toNat nw 0).2))) h') : wpC (d + 11) 363 [.inr (.inr 1036), .inl n] h Q := by
  unfold zahd at hQ0 hQ1
  rw [wpC_B]; refine ⟨⟨Nat.zero_lt_succ _, Nat.le_of_ble_eq_true rfl⟩, ?_⟩; simp only [lent]
  by_cases e1 : ah_m h 1036 58 ≠ 0 ∧ (1 ≤ n ∧ n ≤ 30) ∧ nw 0 + n ≤ 999
  · simp (disch := omega) only [q_363_0, b_363_0, q_363_17, b_363_17, ↓w_iconst, ↓w_bipush, ↓w_aload_n_0, ↓w_iload_n_1, ↓w_istore_n_2, ↓w_istore_n_3, ↓w_nop, ↓w_ifCond_ne, ↓w_ireturn0, ↓w_invokevirtual_0, ↓w_invokevirtual_1, ↓w_invokevirtual_3, stw_0, stw_i, stw_l, stw_r, ofK0, ofK1, ofK2, lst1, lst2, lkill, kont_none, kont_some, Int.reduceToNat, List.length_cons, List.length_nil, Nat.reduceAdd, Nat.reduceLeDiff, Nat.zero_le, true_and, and_true, if_true, if_false, ne_eq, Int.reduceEq, Int.reduceNeg, not_false_eq_true, not_true_eq_false, ↓reduceIte, Int.reduceLT, Int.reduceLE, and_self, or_true, true_or, or_false, false_or, false_and, and_false, ah_t_w, ah_m_w, ah_n_w, lst1_0, List.tail_cons, w32_i, zbd, lst2_0, mt_1036a hG.1, c_328 hG hF, e1]
    refine c_361 hG hU (fun h2 hG2 hU2 hO2 => ?_)
    have hX2 : MX h2 := ⟨by rw [hO2.2 _ _ (by unfold WU; omega)]; exact hX.1, by rw [hO2.2 _ _ (by unfold WU; omega)]; exact hX.2⟩
    simp (disch := omega) only [b_363_17, ↓w_iconst, ↓w_aload_n_0, ↓w_istore_n_2, ↓w_istore_n_3, ↓w_nop, ↓w_invokevirtual_0, stw_0, stw_i, stw_l, stw_r, ofK0, ofK1, ofK2, lst1, lst2, lkill, kont_none, kont_some, Int.reduceToNat, List.length_cons, List.length_nil, Nat.reduceAdd, Nat.reduceLeDiff, Nat.zero_le, true_and, and_true, if_true, if_false, ne_eq, Int.reduceEq, Int.reduceNeg, not_false_eq_true, not_true_eq_false, ↓reduceIte, Int.reduceLT, Int.reduceLE, and_self, or_true, true_or, or_false, false_or, false_and, and_false, ah_t_w, ah_m_w, ah_n_w, lst1_0, List.tail_cons, w32_i, zbd, lst2_0]
    refine l_363 hH hX2 (hL e1.1) (by omega) (R := zdc T (T 1074 6) (T 1074 7) n.toNat nw 0) (fun h3 a b c hO3 => ?_) n.toNat 0 0 nw _ (by omega) (by omega) (by omega) (by omega) hG2 hF (by omega) Off_rfl rfl
    exact hQ1 h3 e1 a b c (UR_off hU2 hO3 (fun r i w => WD_U w)) (Off_tr (Off_mono (fun r i w => Or.inr w) hO2) (Off_mono (fun r i w => Or.inl w) hO3))
  · simp (disch := omega) only [q_363_0, b_363_0, ↓w_iconst, ↓w_bipush, ↓w_aload_n_0, ↓w_iload_n_1, ↓w_ifCond_ne, ↓w_ireturn0, ↓w_invokevirtual_1, ↓w_invokevirtual_3, stw_0, stw_i, stw_l, stw_r, ofK0, ofK1, ofK2, lst1, lst2, lkill, kont_none, kont_some, Int.reduceToNat, List.length_cons, List.length_nil, Nat.reduceAdd, Nat.reduceLeDiff, Nat.zero_le, true_and, and_true, if_true, if_false, ne_eq, Int.reduceEq, Int.reduceNeg, not_false_eq_true, not_true_eq_false, ↓reduceIte, Int.reduceLT, Int.reduceLE, and_self, or_true, true_or, or_false, false_or, false_and, and_false, ah_t_w, ah_m_w, ah_n_w, lst1_0, List.tail_cons, w32_i, zbd, lst2_0, mt_1036a hG.1, c_328 hG hF, if_neg e1, c_350 hG.1]
    exact hQ0 e1
end ACT2
