/-! ===== M: chance ===== -/
def WC (r i : Int) : Prop := WD r i ∨ (r = 1036 ∧ i = 86)
section CHN
variable {d : Nat} {h h0 : AH} {Q : QQ} {x y z m k s l w a b v n t p th D0 D1 f fr : Int} {T : Int → Int → Int} {nw g tp sr : Int → Int} {c : Int × Int × Int} {ul : List (Int → Int)}
set_option maxHeartbeats 2000000
theorem WC_U {r i : Int} (w : WC r i) : ¬ WU r i := by unfold WC WD Wc Wy Wq at w; unfold WU; omega
theorem zsd_b : 0 ≤ zsd s ∧ zsd s < 2147483648 := by unfold zsd; omega
theorem l_365 (hH : HV T) (hX : MX h) (hL : LV T) (hn : 0 ≤ n ∧ n ≤ 30) {R : (Int → Int) × Int × Int} (hQ : ∀ h', MG T R.1 h' → FV R.1 → R.1 0 ≤ 999 → ah_m h' 1036 86 = R.2.1 → (0 ≤ R.2.1 ∧ R.2.1 < 2147483648) → Off WC h h' → Q (.inl (some (.inl R.2.2))) h') :
    ∀ (j : Nat) (k a : Int) (nw : Int → Int) (s : Int) tl h', 0 ≤ k → k + j = n → 0 ≤ a → a ≤ k → MG T nw h' → FV nw → nw 0 + j ≤ 999 → ah_m h' 1036 86 = s → (0 ≤ s ∧ s < 2147483648) → Off WC h h' → zchn T (T 1074 6) (T 1074 7) j nw s a = R → wpB (d + 10) 365 25 (some (.inr (.inr 1036)) :: some (.inl n) :: some (.inl a) :: some (.inl k) :: tl) [] h' Q := by
  intro j
  induction j with
  | zero =>
    intro k a nw s tl h' k0 k1 a0 a1 hG hF hd es hs hO hR
    have hlt : ¬ k < n := by omega
    simp (disch := omega) only [q_365_25, b_365_25, q_365_96, b_365_96, ↓w_iconst, ↓w_bipush, ↓w_aload_n_0, ↓w_iload_n_1, ↓w_iload_n_2, ↓w_iload_n_3, ↓w_getfield, ↓w_iaload, ↓w_goto, ↓w_ifCond_ne, ↓w_if_icmp_ge, ↓w_ireturn0, ↓w_invokevirtual_0, ↓w_invokevirtual_1, stw_0, stw_i, stw_l, stw_r, ofK0, ofK1, ofK2, lst1, lst2, lkill, kont_none, kont_some, Int.reduceToNat, List.length_cons, List.length_nil, Nat.reduceAdd, Nat.reduceLeDiff, Nat.zero_le, true_and, and_true, if_true, if_false, ne_eq, Int.reduceEq, Int.reduceNeg, not_false_eq_true, not_true_eq_false, ↓reduceIte, Int.reduceLT, Int.reduceLE, and_self, or_true, true_or, or_false, false_or, false_and, and_false, ah_t_w, ah_m_w, ah_n_w, lst1_0, List.tail_cons, w32_i, zbd, lst2_0, mt_1036a hG.1, mt_1079a hG.1, mt_1079b hG.1, mf_52 hG.1, g_1079 hG, c_279 hG, hlt]
    simp only [zchn] at hR
    subst hR
    exact hQ _ hG hF (by simp at hd; exact hd) es hs hO
  | succ j ih =>
    intro k a nw s tl h' k0 k1 a0 a1 hG hF hd es hs hO hR
    have hlt : k < n := by omega
    have hT := hG.2.2.2.1
    have hsd := hG.2.2.2.2.2.2.2
    have hz := @zdd_x h T hX
    have hzb := @zall_b T nw hT
    have hb : 1 ≤ (if nw 1 = 0 then T 1074 6 else T 1074 7) ∧ (if nw 1 = 0 then T 1074 6 else T 1074 7) ≤ 3 := by
      have := hL.1; have := hL.2; split <;> omega
    simp only [zchn] at hR
    -- the day
    have day : ∀ h1 c c0 s1 a1 tl, MG T nw h1 → Off WC h h1 → zch h1 = c → zcv T c → ah_m h1 1036 86 = s1 → (0 ≤ s1 ∧ s1 < 2147483648) → 0 ≤ a1 → a1 ≤ k + 1 → zdy T nw 0 c = zdy T nw 0 c0 → zchn T (T 1074 6) (T 1074 7) j (zdy T nw 0 c0) s1 a1 = R → wpB (d + 10) 365 86 (some (.inr (.inr 1036)) :: some (.inl n) :: some (.inl a1) :: some (.inl k) :: tl) [] h1 Q := by
      intro h1 c c0 s1 a1 tl hG1 hO1 hch hv es1 hs1 c0' c1' edy hR1
      have f75 : ah_m h1 1036 75 = 0 := by rw [hO1.2 _ _ (by unfold WC WD Wc Wy Wq; omega)]; exact hX.1
      simp (disch := omega) only [q_365_86, b_365_86, ↓w_aload_n_0, ↓w_iinc_3, ↓w_goto, ↓w_invokevirtual_0, stw_0, stw_i, stw_l, stw_r, ofK0, ofK1, ofK2, lst1, lst2, lkill, kont_none, kont_some, Int.reduceToNat, List.length_cons, List.length_nil, Nat.reduceAdd, Nat.reduceLeDiff, Nat.zero_le, true_and, and_true, if_true, if_false, ne_eq, Int.reduceEq, Int.reduceNeg, not_false_eq_true, not_true_eq_false, ↓reduceIte, Int.reduceLT, Int.reduceLE, and_self, or_true, true_or, or_false, false_or, false_and, and_false, ah_t_w, ah_m_w, ah_n_w, lst1_0, List.tail_cons, w32_i, zbd, lst2_0, mt_1036a hG1.1]
      refine c_332 hG1 hH hF (by omega) f75 hch hv (fun h3 hG3 hF3 hO3 _ => ?_)
      have ez := @zdy_0 h1 0 T nw _ hG1 hF hv
      rw [edy] at hG3 hF3 ez
      simp (disch := omega) only [b_365_86, ↓w_aload_n_0, ↓w_iinc_3, ↓w_goto, ↓w_invokevirtual_0, stw_0, stw_i, stw_l, stw_r, ofK0, ofK1, ofK2, lst1, lst2, lkill, kont_none, kont_some, Int.reduceToNat, List.length_cons, List.length_nil, Nat.reduceAdd, Nat.reduceLeDiff, Nat.zero_le, true_and, and_true, if_true, if_false, ne_eq, Int.reduceEq, Int.reduceNeg, not_false_eq_true, not_true_eq_false, ↓reduceIte, Int.reduceLT, Int.reduceLE, and_self, or_true, true_or, or_false, false_or, false_and, and_false, ah_t_w, ah_m_w, ah_n_w, lst1_0, List.tail_cons, w32_i, zbd, lst2_0]
      exact ih (k + 1) _ _ s1 _ _ (by omega) (by omega) c0' c1' hG3 hF3 (by rw [ez]; omega) (by rw [hO3.2 _ _ (by unfold Wy Wq; omega)]; exact es1) hs1 (Off_tr hO1 (Off_mono (fun r i w => Or.inl (Or.inr w)) hO3)) hR1
    -- by habit
    have habit : ∀ h1 s1 tl, MG T nw h1 → Off WC h h1 → ah_m h1 1036 86 = s1 → (0 ≤ s1 ∧ s1 < 2147483648) → zchn T (T 1074 6) (T 1074 7) j (zdy T nw 0 (zto T (T 1074 6) (T 1074 7) nw)) s1 a = R → wpB (d + 10) 365 57 (some (.inr (.inr 1036)) :: some (.inl n) :: some (.inl a) :: some (.inl k) :: tl) [.inl 0] h1 Q := by
      intro h1 s1 tl hG1 hO1 es1 hs1 hR1
      have hdd : zdd T h1 = zdd T h := zdd_off hO1 (fun i a => by unfold WC WD Wc Wy Wq; omega)
      have hDD : zdd T h1 (nw 1) = if nw 1 = 0 then T 1074 6 else T 1074 7 := by
        rw [hdd]; rcases hsd with e | e <;> rw [e]
        · rw [if_pos rfl]; exact hz.1
        · rw [if_neg (by decide)]; exact hz.2
      simp (disch := omega) only [q_365_57, b_365_57, q_365_82, b_365_82, ↓w_aload_n_0, ↓w_iinc_2, ↓w_iload_4, ↓w_istore, ↓w_nop, ↓w_goto, ↓w_ifCond_eq, ↓w_invokevirtual_0, ↓w_invokevirtual_1, stw_0, stw_i, stw_l, stw_r, ofK0, ofK1, ofK2, lst1, lst2, lkill, kont_none, kont_some, Int.reduceToNat, List.length_cons, List.length_nil, Nat.reduceAdd, Nat.reduceLeDiff, Nat.zero_le, true_and, and_true, if_true, if_false, ne_eq, Int.reduceEq, Int.reduceNeg, not_false_eq_true, not_true_eq_false, ↓reduceIte, Int.reduceLT, Int.reduceLE, and_self, or_true, true_or, or_false, false_or, false_and, and_false, ah_t_w, ah_m_w, ah_n_w, lst1_0, List.tail_cons, w32_i, zbd, lst2_0, mt_1036a hG1.1, c_345 hG1]
      refine c_331 hG1 hDD hb.1 hb.2 (fun h2 hG2 hO2 hch => ?_)
      simp (disch := omega) only [b_365_82, ↓w_aload_n_0, ↓w_nop, ↓w_invokevirtual_0, stw_0, stw_i, stw_l, stw_r, ofK0, ofK1, ofK2, lst1, lst2, lkill, kont_none, kont_some, Int.reduceToNat, List.length_cons, List.length_nil, Nat.reduceAdd, Nat.reduceLeDiff, Nat.zero_le, true_and, and_true, if_true, if_false, ne_eq, Int.reduceEq, Int.reduceNeg, not_false_eq_true, not_true_eq_false, ↓reduceIte, Int.reduceLT, Int.reduceLE, and_self, or_true, true_or, or_false, false_or, false_and, and_false, ah_t_w, ah_m_w, ah_n_w, lst1_0, List.tail_cons, w32_i, zbd, lst2_0]
      exact day h2 _ _ s1 a _ hG2 (Off_tr hO1 (Off_mono (fun r i w => Or.inl (Or.inl w)) hO2)) hch (zbe_v hT) (by rw [hO2.2 _ _ (by unfold Wc; omega)]; exact es1) hs1 a0 (by omega) zdy_ab hR1
    rw [q_365_25]
    cases e1 : (zcr T nw || (zmv T nw).isEmpty)
    · have eall : (zall T nw : Int) = (zmv T nw).length ∧ 0 < (zmv T nw).length ∧ zcr T nw = false := by
        cases e2 : zcr T nw
        · rw [e2, Bool.false_or] at e1
          unfold zall; rw [e2]
          refine ⟨rfl, ?_, rfl⟩
          cases e3 : zmv T nw with
          | nil => rw [e3] at e1; cases e1
          | cons _ _ => simp
        · rw [e2] at e1; cases e1
      have hs1 := @zsd_b s
      have hG1 : MG T nw (ah_w h' 1036 86 (zsd s)) := MG_f hG (by omega)
      have hO1 : Off WC h (ah_w h' 1036 86 (zsd s)) := Off_w hO (by unfold WC; omega)
      have g86 : ah_m (ah_w h' 1036 86 (zsd s)) 1036 86 = zsd s := rfl
      have ecd : zcd T (T 1074 6) (T 1074 7) nw s = if zsd s / 64 % 100 < T 1079 3 then (zpc T nw (zsd (zsd s) / 64 % (zall T nw : Int)) 0 0, zsd (zsd s), true) else (zto T (T 1074 6) (T 1074 7) nw, zsd s, false) := by
        unfold zcd; rw [e1, if_neg (by decide)]
      have c66 : ∀ {Q}, wpC (d + 10) 366 [.inr (.inr 1036), .inl 100] h' Q ↔ Q (.inl (some (.inl (zsd s / 64 % 100)))) (ah_w h' 1036 86 (zsd s)) := by
        intro Q
        have := @c_366 (d + 9) h' Q 100 hG.1 (by rw [es]; exact hs) (by decide)
        rw [es] at this; exact this
      by_cases g : zsd s / 64 % 100 < T 1079 3
      · rw [ecd, if_pos g] at hR
        simp only [if_true] at hR
        simp (disch := omega) only [b_365_25, q_365_57, b_365_57, ↓w_iconst, ↓w_bipush, ↓w_aload_n_0, ↓w_iload_n_1, ↓w_iinc_2, ↓w_iload_n_3, ↓w_iload_4, ↓w_istore, ↓w_getfield, ↓w_iaload, ↓w_goto, ↓w_ifCond_eq, ↓w_ifCond_ne, ↓w_if_icmp_ge, ↓w_invokevirtual_0, ↓w_invokevirtual_1, stw_0, stw_i, stw_l, stw_r, ofK0, ofK1, ofK2, lst1, lst2, lkill, kont_none, kont_some, Int.reduceToNat, List.length_cons, List.length_nil, Nat.reduceAdd, Nat.reduceLeDiff, Nat.zero_le, true_and, and_true, if_true, if_false, ne_eq, Int.reduceEq, Int.reduceNeg, not_false_eq_true, not_true_eq_false, ↓reduceIte, Int.reduceLT, Int.reduceLE, and_self, or_true, true_or, or_false, false_or, false_and, and_false, ah_t_w, ah_m_w, ah_n_w, lst1_0, List.tail_cons, w32_i, zbd, lst2_0, mt_1036a hG.1, mt_1079a hG.1, mt_1079b hG.1, mf_52 hG.1, g_1079 hG, c_279 hG, c_345 hG, hlt, e1, zb_f, c66, g_1079 hG1, g, c_345 hG1, zall_i]
        have c67 : ∀ {Q}, wpC (d + 10) 366 [.inr (.inr 1036), .inl (zall T nw)] (ah_w h' 1036 86 (zsd s)) Q ↔ Q (.inl (some (.inl (zsd (zsd s) / 64 % (zall T nw : Int))))) (ah_w (ah_w h' 1036 86 (zsd s)) 1036 86 (zsd (zsd s))) := by
          intro Q
          have := @c_366 (d + 9) (ah_w h' 1036 86 (zsd s)) Q (zall T nw) hG1.1 (by rw [g86]; exact hs1) ⟨by omega, by omega⟩
          rw [g86] at this; exact this
        simp (disch := omega) only [b_365_57, ↓w_aload_n_0, ↓w_iinc_2, ↓w_iload_4, ↓w_istore, ↓w_goto, ↓w_ifCond_eq, ↓w_invokevirtual_0, ↓w_invokevirtual_1, stw_0, stw_i, stw_l, stw_r, ofK0, ofK1, ofK2, lst1, lst2, lkill, kont_none, kont_some, Int.reduceToNat, List.length_cons, List.length_nil, Nat.reduceAdd, Nat.reduceLeDiff, Nat.zero_le, true_and, and_true, if_true, if_false, ne_eq, Int.reduceEq, Int.reduceNeg, not_false_eq_true, not_true_eq_false, ↓reduceIte, Int.reduceLT, Int.reduceLE, and_self, or_true, true_or, or_false, false_or, false_and, and_false, ah_t_w, ah_m_w, ah_n_w, lst1_0, List.tail_cons, w32_i, zbd, lst2_0, mt_1036a hG.1, c_345 hG, c67]
        have hG2 : MG T nw (ah_w (ah_w h' 1036 86 (zsd s)) 1036 86 (zsd (zsd s))) := MG_f hG1 (by omega)
        have hO2 : Off WC h (ah_w (ah_w h' 1036 86 (zsd s)) 1036 86 (zsd (zsd s))) := Off_w hO1 (by unfold WC; omega)
        refine c_308 hG2 (fun h3 hG3 hO3 hch => ?_)
        simp (disch := omega) only [b_365_57, ↓w_aload_n_0, ↓w_iinc_2, ↓w_iload_4, ↓w_istore, ↓w_goto, ↓w_ifCond_eq, ↓w_invokevirtual_0, ↓w_invokevirtual_1, stw_0, stw_i, stw_l, stw_r, ofK0, ofK1, ofK2, lst1, lst2, lkill, kont_none, kont_some, Int.reduceToNat, List.length_cons, List.length_nil, Nat.reduceAdd, Nat.reduceLeDiff, Nat.zero_le, true_and, and_true, if_true, if_false, ne_eq, Int.reduceEq, Int.reduceNeg, not_false_eq_true, not_true_eq_false, ↓reduceIte, Int.reduceLT, Int.reduceLE, and_self, or_true, true_or, or_false, false_or, false_and, and_false, ah_t_w, ah_m_w, ah_n_w, lst1_0, List.tail_cons, w32_i, zbd, lst2_0]
        exact day h3 _ _ (zsd (zsd s)) (a + 1) _ hG3 (Off_tr hO2 (Off_mono (fun r i w => Or.inl (Or.inl (by unfold Wh at w; unfold Wc; omega))) hO3)) hch (zpc_v hT) (by rw [hO3.2 _ _ (by unfold Wh; omega)]; rfl) zsd_b (by omega) (by omega) zdy_pc hR
      · rw [ecd, if_neg g] at hR
        simp only [Bool.false_eq_true, if_false] at hR
        simp (disch := omega) only [b_365_25, q_365_56, b_365_56, ↓w_iconst, ↓w_bipush, ↓w_aload_n_0, ↓w_iload_n_1, ↓w_iload_n_3, ↓w_getfield, ↓w_iaload, ↓w_nop, ↓w_goto, ↓w_ifCond_ne, ↓w_if_icmp_ge, ↓w_invokevirtual_0, ↓w_invokevirtual_1, stw_0, stw_i, stw_l, stw_r, ofK0, ofK1, ofK2, lst1, lst2, lkill, kont_none, kont_some, Int.reduceToNat, List.length_cons, List.length_nil, Nat.reduceAdd, Nat.reduceLeDiff, Nat.zero_le, true_and, and_true, if_true, if_false, ne_eq, Int.reduceEq, Int.reduceNeg, not_false_eq_true, not_true_eq_false, ↓reduceIte, Int.reduceLT, Int.reduceLE, and_self, or_true, true_or, or_false, false_or, false_and, and_false, ah_t_w, ah_m_w, ah_n_w, lst1_0, List.tail_cons, w32_i, zbd, lst2_0, mt_1036a hG.1, mt_1079a hG.1, mt_1079b hG.1, mf_52 hG.1, g_1079 hG, c_279 hG, hlt, e1, zb_f, c66, g_1079 hG1, g]
        exact habit _ _ _ hG1 hO1 rfl hs1 hR
    · have ecd : zcd T (T 1074 6) (T 1074 7) nw s = (zto T (T 1074 6) (T 1074 7) nw, s, false) := by unfold zcd; rw [e1, if_pos rfl]
      rw [ecd] at hR
      simp only [Bool.false_eq_true, if_false] at hR
      simp (disch := omega) only [b_365_25, q_365_56, b_365_56, ↓w_iconst, ↓w_bipush, ↓w_aload_n_0, ↓w_iload_n_1, ↓w_iload_n_3, ↓w_getfield, ↓w_iaload, ↓w_nop, ↓w_goto, ↓w_ifCond_ne, ↓w_if_icmp_ge, ↓w_invokevirtual_0, ↓w_invokevirtual_1, stw_0, stw_i, stw_l, stw_r, ofK0, ofK1, ofK2, lst1, lst2, lkill, kont_none, kont_some, Int.reduceToNat, List.length_cons, List.length_nil, Nat.reduceAdd, Nat.reduceLeDiff, Nat.zero_le, true_and, and_true, if_true, if_false, ne_eq, Int.reduceEq, Int.reduceNeg, not_false_eq_true, not_true_eq_false, ↓reduceIte, Int.reduceLT, Int.reduceLE, and_self, or_true, true_or, or_false, false_or, false_and, and_false, ah_t_w, ah_m_w, ah_n_w, lst1_0, List.tail_cons, w32_i, zbd, lst2_0, mt_1036a hG.1, mt_1079a hG.1, mt_1079b hG.1, mf_52 hG.1, g_1079 hG, c_279 hG, hlt, e1, zb_t]
      exact habit _ _ _ hG hO es hs hR
theorem c_365 (hG : MG T nw h) (hF : FV nw) (hH : HV T) (hL : ah_m h 1036 58 ≠ 0 → LV T) (hX : MX h) (hU : UR h ul) (es : ah_m h 1036 86 = s) (hs : 0 ≤ s ∧ s < 2147483648)
    (hQ0 : ¬ zahd nw (ah_m h 1036 58) n 1 30 → Q (.inl (some (.inl (-1)))) (ah_w h 1038 3 (w32 (ah_m h 1038 3 + 1))))
    (hQ1 : ∀ h' R, R = zchn T (T 1074 6) (T 1074 7) n.toNat nw s 0 → zahd nw (ah_m h 1036 58) n 1 30 → MG T R.1 h' → FV R.1 → R.1 0 ≤ 999 → ah_m h' 1036 86 = R.2.1 → (0 ≤ R.2.1 ∧ R.2.1 < 2147483648) → UR h' ((nw :: ul).take 20) → Off (fun r i => WC r i ∨ WU r i) h h' → Q (.inl (some (.inl R.2.2))) h') : wpC (d + 11) 365 [.inr (.inr 1036), .inl n] h Q := by
  unfold zahd at hQ0 hQ1
  rw [wpC_B]; refine ⟨⟨Nat.zero_lt_succ _, Nat.le_of_ble_eq_true rfl⟩, ?_⟩; simp only [lent]
  by_cases e1 : ah_m h 1036 58 ≠ 0 ∧ (1 ≤ n ∧ n ≤ 30) ∧ nw 0 + n ≤ 999
  · simp (disch := omega) only [q_365_0, b_365_0, q_365_17, b_365_17, ↓w_iconst, ↓w_bipush, ↓w_aload_n_0, ↓w_iload_n_1, ↓w_istore_n_2, ↓w_istore_n_3, ↓w_nop, ↓w_ifCond_ne, ↓w_ireturn0, ↓w_invokevirtual_0, ↓w_invokevirtual_1, ↓w_invokevirtual_3, stw_0, stw_i, stw_l, stw_r, ofK0, ofK1, ofK2, lst1, lst2, lkill, kont_none, kont_some, Int.reduceToNat, List.length_cons, List.length_nil, Nat.reduceAdd, Nat.reduceLeDiff, Nat.zero_le, true_and, and_true, if_true, if_false, ne_eq, Int.reduceEq, Int.reduceNeg, not_false_eq_true, not_true_eq_false, ↓reduceIte, Int.reduceLT, Int.reduceLE, and_self, or_true, true_or, or_false, false_or, false_and, and_false, ah_t_w, ah_m_w, ah_n_w, lst1_0, List.tail_cons, w32_i, zbd, lst2_0, mt_1036a hG.1, c_328 hG hF, e1]
    refine c_361 hG hU (fun h2 hG2 hU2 hO2 => ?_)
    have hX2 : MX h2 := ⟨by rw [hO2.2 _ _ (by unfold WU; omega)]; exact hX.1, by rw [hO2.2 _ _ (by unfold WU; omega)]; exact hX.2⟩
    have es2 : ah_m h2 1036 86 = s := by rw [hO2.2 _ _ (by unfold WU; omega)]; exact es
    simp (disch := omega) only [b_365_17, ↓w_iconst, ↓w_aload_n_0, ↓w_istore_n_2, ↓w_istore_n_3, ↓w_nop, ↓w_invokevirtual_0, stw_0, stw_i, stw_l, stw_r, ofK0, ofK1, ofK2, lst1, lst2, lkill, kont_none, kont_some, Int.reduceToNat, List.length_cons, List.length_nil, Nat.reduceAdd, Nat.reduceLeDiff, Nat.zero_le, true_and, and_true, if_true, if_false, ne_eq, Int.reduceEq, Int.reduceNeg, not_false_eq_true, not_true_eq_false, ↓reduceIte, Int.reduceLT, Int.reduceLE, and_self, or_true, true_or, or_false, false_or, false_and, and_false, ah_t_w, ah_m_w, ah_n_w, lst1_0, List.tail_cons, w32_i, zbd, lst2_0]
    refine l_365 hH hX2 (hL e1.1) (by omega) (R := zchn T (T 1074 6) (T 1074 7) n.toNat nw s 0) (fun h3 a b c e f hO3 => ?_) n.toNat 0 0 nw s _ _ (by omega) (by omega) (by omega) (by omega) hG2 hF (by omega) es2 hs Off_rfl rfl
    exact hQ1 h3 _ rfl e1 a b c e f (UR_off hU2 hO3 (fun r i w => WC_U w)) (Off_tr (Off_mono (fun r i w => Or.inr w) hO2) (Off_mono (fun r i w => Or.inl w) hO3))
  · simp (disch := omega) only [q_365_0, b_365_0, ↓w_iconst, ↓w_bipush, ↓w_aload_n_0, ↓w_iload_n_1, ↓w_ifCond_ne, ↓w_ireturn0, ↓w_invokevirtual_1, ↓w_invokevirtual_3, stw_0, stw_i, stw_l, stw_r, ofK0, ofK1, ofK2, lst1, lst2, lkill, kont_none, kont_some, Int.reduceToNat, List.length_cons, List.length_nil, Nat.reduceAdd, Nat.reduceLeDiff, Nat.zero_le, true_and, and_true, if_true, if_false, ne_eq, Int.reduceEq, Int.reduceNeg, not_false_eq_true, not_true_eq_false, ↓reduceIte, Int.reduceLT, Int.reduceLE, and_self, or_true, true_or, or_false, false_or, false_and, and_false, ah_t_w, ah_m_w, ah_n_w, lst1_0, List.tail_cons, w32_i, zbd, lst2_0, mt_1036a hG.1, c_328 hG hF, if_neg e1, c_350 hG.1]
    exact hQ0 e1
end CHN
