/-! ===== M: men told on the tape; reached ===== -/
def zdup (tp : Int → Int) (fr x y : Int) : Nat → Int → Bool
  | 0, _ => false
  | j + 1, k => if tp (fr + 2 * k) = x ∧ tp (fr + 2 * k + 1) = y then true else zdup tp fr x y j (k + 1)
def zam (T : Int → Int → Int) (tp : Int → Int) (fr : Int) : Nat → Int → Bool
  | 0, _ => true
  | j + 1, m => if tp (fr + 2 * m) = 255 ∧ tp (fr + 2 * m + 1) = 255 then zam T tp fr j (m + 1)
      else if tp (fr + 2 * m) < T 1074 4 ∧ tp (fr + 2 * m + 1) < T 1074 5 then (if zdup tp fr (tp (fr + 2 * m)) (tp (fr + 2 * m + 1)) m.toNat 0 = true then false else zam T tp fr j (m + 1)) else false
def zgl (tp : Int → Int) (k : Int) : Int := if tp k = 255 then -1 else tp k
def zrch (T : Int → Int → Int) (nw tp : Int → Int) (isb n r : Int) : Bool := decide (isb ≠ 0 ∧ (0 ≤ r ∧ r ≤ 3) ∧ n = 2 * T 1072 4) && zam T tp 0 (zn T) 0
section RCH
variable {d : Nat} {h h0 : AH} {Q : QQ} {x y z m k s l w a b v n t p th D0 D1 f fr : Int} {T : Int → Int → Int} {nw g tp sr : Int → Int} {c : Int × Int × Int}
set_option maxHeartbeats 2000000
theorem l_354i (hG : MG T nw h) (et : ah_m h 1037 = tp) (hfr : 0 ≤ fr ∧ fr ≤ 100) (hm : 0 ≤ m ∧ m < 8)
    (h1 : zdup tp fr x y m.toNat 0 = true → Q (.inl (some (.inl 0))) h) (h0 : ∀ tl, zdup tp fr x y m.toNat 0 = false → wpB (d + 1) 354 126 (some (.inr (.inr 1036)) :: some (.inl fr) :: some (.inl m) :: tl) [] h Q) :
    ∀ (j : Nat) (k : Int) tl, 0 ≤ k → k + j = m → zdup tp fr x y m.toNat 0 = zdup tp fr x y j k → wpB (d + 1) 354 79 (some (.inr (.inr 1036)) :: some (.inl fr) :: some (.inl m) :: some (.inl x) :: some (.inl y) :: some (.inl k) :: tl) [] h Q := by
  intro j
  induction j with
  | zero =>
    intro k tl k0 k1 hR
    have hlt : ¬ k < m := by omega
    simp (disch := omega) only [q_354_79, b_354_79, ↓w_iconst, ↓w_aload_n_0, ↓w_iload_n_1, ↓w_iload_n_2, ↓w_iload_n_3, ↓w_iload_4, ↓w_iload_5, ↓w_iadd, ↓w_imul, ↓w_getfield, ↓w_iaload, ↓w_if_icmp_ne, ↓w_if_icmp_ge, ↓w_ireturn1, stw_0, stw_i, stw_l, stw_r, ofK0, ofK1, ofK2, lst1, lst2, lkill, kont_none, kont_some, Int.reduceToNat, List.length_cons, List.length_nil, Nat.reduceAdd, Nat.reduceLeDiff, Nat.zero_le, true_and, and_true, if_true, if_false, ne_eq, Int.reduceEq, Int.reduceNeg, not_false_eq_true, not_true_eq_false, ↓reduceIte, Int.reduceLT, Int.reduceLE, and_self, or_true, true_or, or_false, false_or, false_and, and_false, ah_t_w, ah_m_w, ah_n_w, lst1_0, List.tail_cons, w32_i, zbd, lst2_0, mt_1036a hG.1, mt_1037a hG.1, mt_1037b hG.1, mf_0 hG.1, hlt]
    exact h0 _ (by rw [hR]; rfl)
  | succ j ih =>
    intro k tl k0 k1 hR
    have hlt : k < m := by omega
    simp only [zdup] at hR
    rw [q_354_79]
    by_cases g1 : tp (fr + 2 * k) = x
    · by_cases g2 : tp (fr + 2 * k + 1) = y
      · rw [if_pos ⟨g1, g2⟩] at hR
        simp (disch := omega) only [b_354_79, ↓w_iconst, ↓w_aload_n_0, ↓w_iload_n_1, ↓w_iload_n_2, ↓w_iload_n_3, ↓w_iload_4, ↓w_iload_5, ↓w_iadd, ↓w_imul, ↓w_getfield, ↓w_iaload, ↓w_if_icmp_ne, ↓w_if_icmp_ge, ↓w_ireturn1, stw_0, stw_i, stw_l, stw_r, ofK0, ofK1, ofK2, lst1, lst2, lkill, kont_none, kont_some, Int.reduceToNat, List.length_cons, List.length_nil, Nat.reduceAdd, Nat.reduceLeDiff, Nat.zero_le, true_and, and_true, if_true, if_false, ne_eq, Int.reduceEq, Int.reduceNeg, not_false_eq_true, not_true_eq_false, ↓reduceIte, Int.reduceLT, Int.reduceLE, and_self, or_true, true_or, or_false, false_or, false_and, and_false, ah_t_w, ah_m_w, ah_n_w, lst1_0, List.tail_cons, w32_i, zbd, lst2_0, mt_1036a hG.1, mt_1037a hG.1, mt_1037b hG.1, mf_0 hG.1, et, hlt, g1, g2]
        exact h1 hR
      · rw [if_neg (fun q => g2 q.2)] at hR
        simp (disch := omega) only [b_354_79, q_354_120, b_354_120, ↓w_iconst, ↓w_aload_n_0, ↓w_iload_n_1, ↓w_iload_n_2, ↓w_iload_n_3, ↓w_iload_4, ↓w_iload_5, ↓w_iinc_5, ↓w_iadd, ↓w_imul, ↓w_getfield, ↓w_iaload, ↓w_goto, ↓w_if_icmp_ne, ↓w_if_icmp_ge, ↓w_ireturn1, stw_0, stw_i, stw_l, stw_r, ofK0, ofK1, ofK2, lst1, lst2, lkill, kont_none, kont_some, Int.reduceToNat, List.length_cons, List.length_nil, Nat.reduceAdd, Nat.reduceLeDiff, Nat.zero_le, true_and, and_true, if_true, if_false, ne_eq, Int.reduceEq, Int.reduceNeg, not_false_eq_true, not_true_eq_false, ↓reduceIte, Int.reduceLT, Int.reduceLE, and_self, or_true, true_or, or_false, false_or, false_and, and_false, ah_t_w, ah_m_w, ah_n_w, lst1_0, List.tail_cons, w32_i, zbd, lst2_0, mt_1036a hG.1, mt_1037a hG.1, mt_1037b hG.1, mf_0 hG.1, et, hlt, g1, g2]
        exact ih (k + 1) _ (by omega) (by omega) hR
    · rw [if_neg (fun q => g1 q.1)] at hR
      simp (disch := omega) only [b_354_79, q_354_120, b_354_120, ↓w_iconst, ↓w_aload_n_0, ↓w_iload_n_1, ↓w_iload_n_2, ↓w_iload_n_3, ↓w_iload_4, ↓w_iload_5, ↓w_iinc_5, ↓w_iadd, ↓w_imul, ↓w_getfield, ↓w_iaload, ↓w_goto, ↓w_if_icmp_ne, ↓w_if_icmp_ge, ↓w_ireturn1, stw_0, stw_i, stw_l, stw_r, ofK0, ofK1, ofK2, lst1, lst2, lkill, kont_none, kont_some, Int.reduceToNat, List.length_cons, List.length_nil, Nat.reduceAdd, Nat.reduceLeDiff, Nat.zero_le, true_and, and_true, if_true, if_false, ne_eq, Int.reduceEq, Int.reduceNeg, not_false_eq_true, not_true_eq_false, ↓reduceIte, Int.reduceLT, Int.reduceLE, and_self, or_true, true_or, or_false, false_or, false_and, and_false, ah_t_w, ah_m_w, ah_n_w, lst1_0, List.tail_cons, w32_i, zbd, lst2_0, mt_1036a hG.1, mt_1037a hG.1, mt_1037b hG.1, mf_0 hG.1, et, hlt, g1]
      exact ih (k + 1) _ (by omega) (by omega) hR
theorem l_354 (hG : MG T nw h) (et : ah_m h 1037 = tp) (hfr : 0 ≤ fr ∧ fr ≤ 100) : ∀ (j : Nat) (m : Int) tl, 0 ≤ m → m + j = T 1072 4 → wpB (d + 1) 354 2 (some (.inr (.inr 1036)) :: some (.inl fr) :: some (.inl m) :: tl) [] h (fun o h1 => o = .inl (some (.inl (zb (zam T tp fr j m)))) ∧ h1 = h) := by
  have h8 := hG.2.2.2.1.2.1
  intro j
  induction j with
  | zero =>
    intro m tl k0 k1
    have hlt : ¬ m < T 1072 4 := by omega
    simp (disch := omega) only [q_354_2, b_354_2, q_354_132, b_354_132, ↓w_iconst, ↓w_sipush, ↓w_aload_n_0, ↓w_iload_n_1, ↓w_iload_n_2, ↓w_iload_n_3, ↓w_iload_4, ↓w_istore, ↓w_istore_n_3, ↓w_iadd, ↓w_imul, ↓w_getfield, ↓w_iaload, ↓w_goto, ↓w_if_icmp_ne, ↓w_if_icmp_ge, ↓w_ireturn1, ↓w_invokevirtual_0, stw_0, stw_i, stw_l, stw_r, ofK0, ofK1, ofK2, lst1, lst2, lkill, kont_none, kont_some, Int.reduceToNat, List.length_cons, List.length_nil, Nat.reduceAdd, Nat.reduceLeDiff, Nat.zero_le, true_and, and_true, if_true, if_false, ne_eq, Int.reduceEq, Int.reduceNeg, not_false_eq_true, not_true_eq_false, ↓reduceIte, Int.reduceLT, Int.reduceLE, and_self, or_true, true_or, or_false, false_or, false_and, and_false, ah_t_w, ah_m_w, ah_n_w, lst1_0, List.tail_cons, w32_i, zbd, lst2_0, mt_1036a hG.1, mt_1037a hG.1, mt_1037b hG.1, mf_0 hG.1, c_281 hG, hlt, zam, zb_t]
  | succ j ih =>
    intro m tl k0 k1
    have ih := fun tl => ih (m + 1) tl (by omega) (by omega)
    have hlt : m < T 1072 4 := by omega
    rw [q_354_2]
    simp only [zam]
    by_cases g : tp (fr + 2 * m) = 255 ∧ tp (fr + 2 * m + 1) = 255
    · rw [if_pos g]
      simp (disch := omega) only [b_354_2, q_354_126, b_354_126, ↓w_iconst, ↓w_sipush, ↓w_aload_n_0, ↓w_iload_n_1, ↓w_iload_n_2, ↓w_iinc_2, ↓w_iload_n_3, ↓w_iload_4, ↓w_istore, ↓w_istore_n_3, ↓w_iadd, ↓w_imul, ↓w_getfield, ↓w_iaload, ↓w_goto, ↓w_if_icmp_ne, ↓w_if_icmp_ge, ↓w_invokevirtual_0, stw_0, stw_i, stw_l, stw_r, ofK0, ofK1, ofK2, lst1, lst2, lkill, kont_none, kont_some, Int.reduceToNat, List.length_cons, List.length_nil, Nat.reduceAdd, Nat.reduceLeDiff, Nat.zero_le, true_and, and_true, if_true, if_false, ne_eq, Int.reduceEq, Int.reduceNeg, not_false_eq_true, not_true_eq_false, ↓reduceIte, Int.reduceLT, Int.reduceLE, and_self, or_true, true_or, or_false, false_or, false_and, and_false, ah_t_w, ah_m_w, ah_n_w, lst1_0, List.tail_cons, w32_i, zbd, lst2_0, mt_1036a hG.1, mt_1037a hG.1, mt_1037b hG.1, mf_0 hG.1, c_281 hG, et, hlt, g]
      exact ih _
    · rw [if_neg g]
      have go : ∀ tl, wpB (d + 1) 354 53 (some (.inr (.inr 1036)) :: some (.inl fr) :: some (.inl m) :: some (.inl (tp (fr + 2 * m))) :: some (.inl (tp (fr + 2 * m + 1))) :: tl) [] h (fun o h1 => o = .inl (some (.inl (zb (if tp (fr + 2 * m) < T 1074 4 ∧ tp (fr + 2 * m + 1) < T 1074 5 then (if zdup tp fr (tp (fr + 2 * m)) (tp (fr + 2 * m + 1)) m.toNat 0 = true then false else zam T tp fr j (m + 1)) else false)))) ∧ h1 = h) := by
        intro tl
        by_cases g1 : tp (fr + 2 * m) < T 1074 4
        · by_cases g2 : tp (fr + 2 * m + 1) < T 1074 5
          · rw [if_pos ⟨g1, g2⟩]
            simp (disch := omega) only [q_354_53, b_354_53, q_354_76, b_354_76, ↓w_iconst, ↓w_aload_n_0, ↓w_iload_n_3, ↓w_iload_4, ↓w_istore, ↓w_getfield, ↓w_iaload, ↓w_nop, ↓w_if_icmp_lt, ↓w_if_icmp_ge, stw_0, stw_i, stw_l, stw_r, ofK0, ofK1, ofK2, lst1, lst2, lkill, kont_none, kont_some, Int.reduceToNat, List.length_cons, List.length_nil, Nat.reduceAdd, Nat.reduceLeDiff, Nat.zero_le, true_and, and_true, if_true, if_false, ne_eq, Int.reduceEq, Int.reduceNeg, not_false_eq_true, not_true_eq_false, ↓reduceIte, Int.reduceLT, Int.reduceLE, and_self, or_true, true_or, or_false, false_or, false_and, and_false, ah_t_w, ah_m_w, ah_n_w, lst1_0, List.tail_cons, w32_i, zbd, lst2_0, mt_1036a hG.1, mt_1074a hG.1, mt_1074b hG.1, mf_47 hG.1, g_1074 hG, g1, g2]
            refine l_354i hG et hfr ⟨k0, by omega⟩ (fun e => ?_) (fun tl e => ?_) m.toNat 0 _ (by omega) (by omega) rfl
            · rw [if_pos e]; exact ⟨rfl, rfl⟩
            · rw [e, if_neg (by decide)]
              simp (disch := omega) only [q_354_126, b_354_126, ↓w_iinc_2, ↓w_goto, stw_0, stw_i, stw_l, stw_r, ofK0, ofK1, ofK2, lst1, lst2, lkill, kont_none, kont_some, Int.reduceToNat, List.length_cons, List.length_nil, Nat.reduceAdd, Nat.reduceLeDiff, Nat.zero_le, true_and, and_true, if_true, if_false, ne_eq, Int.reduceEq, Int.reduceNeg, not_false_eq_true, not_true_eq_false, ↓reduceIte, Int.reduceLT, Int.reduceLE, and_self, or_true, true_or, or_false, false_or, false_and, and_false, ah_t_w, ah_m_w, ah_n_w, lst1_0, List.tail_cons, w32_i, zbd, lst2_0]
              exact ih _
          · rw [if_neg (fun q => g2 q.2)]
            simp (disch := omega) only [q_354_53, b_354_53, q_354_74, b_354_74, ↓w_iconst, ↓w_aload_n_0, ↓w_iload_n_3, ↓w_iload_4, ↓w_getfield, ↓w_iaload, ↓w_nop, ↓w_if_icmp_lt, ↓w_if_icmp_ge, ↓w_ireturn1, stw_0, stw_i, stw_l, stw_r, ofK0, ofK1, ofK2, lst1, lst2, lkill, kont_none, kont_some, Int.reduceToNat, List.length_cons, List.length_nil, Nat.reduceAdd, Nat.reduceLeDiff, Nat.zero_le, true_and, and_true, if_true, if_false, ne_eq, Int.reduceEq, Int.reduceNeg, not_false_eq_true, not_true_eq_false, ↓reduceIte, Int.reduceLT, Int.reduceLE, and_self, or_true, true_or, or_false, false_or, false_and, and_false, ah_t_w, ah_m_w, ah_n_w, lst1_0, List.tail_cons, w32_i, zbd, lst2_0, mt_1036a hG.1, mt_1074a hG.1, mt_1074b hG.1, mf_47 hG.1, g_1074 hG, g1, g2, zb_f]
        · rw [if_neg (fun q => g1 q.1)]
          simp (disch := omega) only [q_354_53, b_354_53, q_354_74, b_354_74, ↓w_iconst, ↓w_aload_n_0, ↓w_iload_n_3, ↓w_iload_4, ↓w_getfield, ↓w_iaload, ↓w_nop, ↓w_if_icmp_lt, ↓w_if_icmp_ge, ↓w_ireturn1, stw_0, stw_i, stw_l, stw_r, ofK0, ofK1, ofK2, lst1, lst2, lkill, kont_none, kont_some, Int.reduceToNat, List.length_cons, List.length_nil, Nat.reduceAdd, Nat.reduceLeDiff, Nat.zero_le, true_and, and_true, if_true, if_false, ne_eq, Int.reduceEq, Int.reduceNeg, not_false_eq_true, not_true_eq_false, ↓reduceIte, Int.reduceLT, Int.reduceLE, and_self, or_true, true_or, or_false, false_or, false_and, and_false, ah_t_w, ah_m_w, ah_n_w, lst1_0, List.tail_cons, w32_i, zbd, lst2_0, mt_1036a hG.1, mt_1074a hG.1, mt_1074b hG.1, mf_47 hG.1, g_1074 hG, g1, zb_f]
      by_cases g1 : tp (fr + 2 * m) = 255
      · have g2 : ¬ tp (fr + 2 * m + 1) = 255 := fun q => g ⟨g1, q⟩
        rw [g1] at go
        rw [g1]
        simp (disch := omega) only [b_354_2, ↓w_iconst, ↓w_sipush, ↓w_aload_n_0, ↓w_iload_n_1, ↓w_iload_n_2, ↓w_iload_n_3, ↓w_iload_4, ↓w_istore, ↓w_istore_n_3, ↓w_iadd, ↓w_imul, ↓w_getfield, ↓w_iaload, ↓w_goto, ↓w_if_icmp_ne, ↓w_if_icmp_ge, ↓w_invokevirtual_0, stw_0, stw_i, stw_l, stw_r, ofK0, ofK1, ofK2, lst1, lst2, lkill, kont_none, kont_some, Int.reduceToNat, List.length_cons, List.length_nil, Nat.reduceAdd, Nat.reduceLeDiff, Nat.zero_le, true_and, and_true, if_true, if_false, ne_eq, Int.reduceEq, Int.reduceNeg, not_false_eq_true, not_true_eq_false, ↓reduceIte, Int.reduceLT, Int.reduceLE, and_self, or_true, true_or, or_false, false_or, false_and, and_false, ah_t_w, ah_m_w, ah_n_w, lst1_0, List.tail_cons, w32_i, zbd, lst2_0, mt_1036a hG.1, mt_1037a hG.1, mt_1037b hG.1, mf_0 hG.1, c_281 hG, et, hlt, g1, g2]
        exact go _
      · simp (disch := omega) only [b_354_2, ↓w_iconst, ↓w_sipush, ↓w_aload_n_0, ↓w_iload_n_1, ↓w_iload_n_2, ↓w_iload_n_3, ↓w_iload_4, ↓w_istore, ↓w_istore_n_3, ↓w_iadd, ↓w_imul, ↓w_getfield, ↓w_iaload, ↓w_goto, ↓w_if_icmp_ne, ↓w_if_icmp_ge, ↓w_invokevirtual_0, stw_0, stw_i, stw_l, stw_r, ofK0, ofK1, ofK2, lst1, lst2, lkill, kont_none, kont_some, Int.reduceToNat, List.length_cons, List.length_nil, Nat.reduceAdd, Nat.reduceLeDiff, Nat.zero_le, true_and, and_true, if_true, if_false, ne_eq, Int.reduceEq, Int.reduceNeg, not_false_eq_true, not_true_eq_false, ↓reduceIte, Int.reduceLT, Int.reduceLE, and_self, or_true, true_or, or_false, false_or, false_and, and_false, ah_t_w, ah_m_w, ah_n_w, lst1_0, List.tail_cons, w32_i, zbd, lst2_0, mt_1036a hG.1, mt_1037a hG.1, mt_1037b hG.1, mf_0 hG.1, c_281 hG, et, hlt, g1]
        exact go _
theorem c_354 (hG : MG T nw h) (et : ah_m h 1037 = tp) (hfr : 0 ≤ fr ∧ fr ≤ 100) : wpC (d + 2) 354 [.inr (.inr 1036), .inl fr] h Q ↔ Q (.inl (some (.inl (zb (zam T tp fr (zn T) 0))))) h := by
  have h8 := hG.2.2.2.1.2.1
  have hn := zn_i hG
  apply CT_iff; apply CT_of; rw [wpC_B]; refine ⟨⟨Nat.zero_lt_succ _, Nat.le_of_ble_eq_true rfl⟩, ?_⟩; simp only [lent]
  simp (disch := omega) only [q_354_0, b_354_0, ↓w_iconst, ↓w_istore_n_2, ↓w_nop, stw_0, stw_i, stw_l, stw_r, ofK0, ofK1, ofK2, lst1, lst2, lkill, kont_none, kont_some, Int.reduceToNat, List.length_cons, List.length_nil, Nat.reduceAdd, Nat.reduceLeDiff, Nat.zero_le, true_and, and_true, if_true, if_false, ne_eq, Int.reduceEq, Int.reduceNeg, not_false_eq_true, not_true_eq_false, ↓reduceIte, Int.reduceLT, Int.reduceLE, and_self, or_true, true_or, or_false, false_or, false_and, and_false, ah_t_w, ah_m_w, ah_n_w, lst1_0, List.tail_cons, w32_i, zbd, lst2_0]
  exact l_354 hG et hfr (zn T) 0 _ (by omega) (by omega)
theorem zeqg_c {g1 g2 : Int → Int} : ∀ (j : Nat) (i : Int), 0 ≤ i → (∀ q, i ≤ q → q < i + j → g1 q = g2 q) → zeqg nw g1 j i = zeqg nw g2 j i := by
  intro j
  induction j with
  | zero => intro i h0 e; rfl
  | succ j ih =>
    intro i h0 e
    simp only [zeqg]
    rw [e i (by omega) (by omega), ih (i + 1) (by omega) (fun q a b => e q (by omega) (by omega))]
theorem zwys_c {g1 g2 : Int → Int} (e : ∀ q, 0 ≤ q → q < 2 * (zn T : Int) → g1 q = g2 q) : ∀ (j : Nat) (nw : Int → Int), zwys T g1 j nw = zwys T g2 j nw := by
  intro j
  induction j with
  | zero =>
    intro nw
    simp only [zwys]
    rw [zeqg_c (g2 := g2) _ _ (Int.le_refl 0) (fun q a b => e q a (by omega))]
  | succ j ih =>
    intro nw
    simp only [zwys]
    have : (fun x : Int × Int => zwys T g1 j (zdo T nw x.1 x.2)) = fun x => zwys T g2 j (zdo T nw x.1 x.2) := funext fun x => ih _
    rw [this]
theorem l_353 (hM : MI h) (et : ah_m h 1037 = tp) (hn : 0 ≤ n ∧ n ≤ 16) (hQ : ∀ h' tl, Off (fun r _ => r = 1092) h h' → (∀ i, 0 ≤ i → i < n → ah_m h' 1092 i = zgl tp i) → wpB d 353 94 (some (.inr (.inr 1036)) :: some (.inl w) :: tl) [] h' Q) (tl : ALoc) :
    ∀ (j : Nat) (k : Int) h', 0 ≤ k → k + j = n → Off (fun r _ => r = 1092) h h' → (∀ i, 0 ≤ i → i < k → ah_m h' 1092 i = zgl tp i) → wpB d 353 55 (some (.inr (.inr 1036)) :: some (.inl w) :: some (.inl n) :: some (.inl k) :: tl) [] h' Q := by
  intro j
  induction j with
  | zero =>
    intro k h' k0 k1 hO hi
    have hlt : ¬ k < n := by omega
    have ek : k = n := by omega
    subst ek
    simp (disch := omega) only [q_353_55, b_353_55, ↓w_iconst, ↓w_sipush, ↓w_aload_n_0, ↓w_iload_n_2, ↓w_iload_n_3, ↓w_getfield, ↓w_iaload, ↓w_goto, ↓w_if_icmp_ne, ↓w_if_icmp_ge, stw_0, stw_i, stw_l, stw_r, ofK0, ofK1, ofK2, lst1, lst2, lkill, kont_none, kont_some, Int.reduceToNat, List.length_cons, List.length_nil, Nat.reduceAdd, Nat.reduceLeDiff, Nat.zero_le, true_and, and_true, if_true, if_false, ne_eq, Int.reduceEq, Int.reduceNeg, not_false_eq_true, not_true_eq_false, ↓reduceIte, Int.reduceLT, Int.reduceLE, and_self, or_true, true_or, or_false, false_or, false_and, and_false, ah_t_w, ah_m_w, ah_n_w, lst1_0, List.tail_cons, w32_i, zbd, lst2_0, hlt]
    exact hQ _ _ hO hi
  | succ j ih =>
    intro k h' k0 k1 hO hi
    have hM' : MI h' := MI_off hM hO (fun r i w => by unfold fre; omega)
    have hlt : k < n := by omega
    have et' : ah_m h' 1037 = tp := by rw [Off_r hO (fun i w => by omega)]; exact et
    have fin : ∀ v, v = zgl tp k → wpB d 353 55 (some (.inr (.inr 1036)) :: some (.inl w) :: some (.inl n) :: some (.inl (k + 1)) :: tl) [] (ah_w h' 1092 k v) Q := by
      intro v ev
      refine ih (k + 1) _ (by omega) (by omega) (Off_w hO rfl) (fun i a b => ?_)
      rw [ah_m_w]; split
      · rename_i e; rw [e.2, ev]
      · exact hi i a (by omega)
    unfold zgl at fin
    rw [q_353_55]
    by_cases g : tp k = 255
    · rw [if_pos g] at fin
      simp (disch := omega) only [b_353_55, q_353_87, b_353_87, ↓w_iconst, ↓w_sipush, ↓w_aload_n_0, ↓w_iload_n_2, ↓w_iload_n_3, ↓w_iinc_3, ↓w_getfield, ↓w_iaload, ↓w_iastore, ↓w_goto, ↓w_if_icmp_ne, ↓w_if_icmp_ge, stw_0, stw_i, stw_l, stw_r, ofK0, ofK1, ofK2, lst1, lst2, lkill, kont_none, kont_some, Int.reduceToNat, List.length_cons, List.length_nil, Nat.reduceAdd, Nat.reduceLeDiff, Nat.zero_le, true_and, and_true, if_true, if_false, ne_eq, Int.reduceEq, Int.reduceNeg, not_false_eq_true, not_true_eq_false, ↓reduceIte, Int.reduceLT, Int.reduceLE, and_self, or_true, true_or, or_false, false_or, false_and, and_false, ah_t_w, ah_m_w, ah_n_w, lst1_0, List.tail_cons, w32_i, zbd, lst2_0, mt_1036a hM', mt_1037a hM', mt_1037b hM', mf_0 hM', mt_1092a hM', mt_1092b hM', mf_82 hM', et', hlt, g]
      exact fin _ rfl
    · rw [if_neg g] at fin
      simp (disch := omega) only [b_353_55, q_353_81, b_353_81, q_353_87, b_353_87, ↓w_iconst, ↓w_sipush, ↓w_aload_n_0, ↓w_iload_n_2, ↓w_iload_n_3, ↓w_iinc_3, ↓w_getfield, ↓w_iaload, ↓w_iastore, ↓w_nop, ↓w_goto, ↓w_if_icmp_ne, ↓w_if_icmp_ge, stw_0, stw_i, stw_l, stw_r, ofK0, ofK1, ofK2, lst1, lst2, lkill, kont_none, kont_some, Int.reduceToNat, List.length_cons, List.length_nil, Nat.reduceAdd, Nat.reduceLeDiff, Nat.zero_le, true_and, and_true, if_true, if_false, ne_eq, Int.reduceEq, Int.reduceNeg, not_false_eq_true, not_true_eq_false, ↓reduceIte, Int.reduceLT, Int.reduceLE, and_self, or_true, true_or, or_false, false_or, false_and, and_false, ah_t_w, ah_m_w, ah_n_w, lst1_0, List.tail_cons, w32_i, zbd, lst2_0, mt_1036a hM', mt_1037a hM', mt_1037b hM', mf_0 hM', mt_1092a hM', mt_1092b hM', mf_82 hM', et', hlt, g]
      exact fin _ rfl
theorem c_353 (hG : MG T nw h) (et : ah_m h 1037 = tp) (en : ah_m h 1036 1 = n) (hv : TPV tp n)
    (hQ0 : zrch T nw tp (ah_m h 1036 58) n w = false → Q (.inl (some (.inl (-1)))) (ah_w (ah_w h 1036 1 0) 1038 1 (w32 (ah_m h 1038 1 + 1))))
    (hQ1 : ∀ h', zrch T nw tp (ah_m h 1036 58) n w = true → MG T nw h' → Off (fun r i => r = 1092 ∨ (1085 ≤ r ∧ r ≤ 1088) ∨ (r = 1036 ∧ i = 1)) h h' → ah_m h' 1036 1 = 0 → Q (.inl (some (.inl (zwys T (zgl tp) w.toNat nw)))) h') : wpC (d + 8) 353 [.inr (.inr 1036), .inl w] h Q := by
  have h8 := hG.2.2.2.1.2.1
  have hn := zn_i hG
  have hG1 : MG T nw (ah_w h 1036 1 0) := MG_f hG (by omega)
  have hO1 : Off (fun r i => r = 1036 ∧ i = 1) h (ah_w h 1036 1 0) := Off_w Off_rfl (by omega)
  have et1 : ah_m (ah_w h 1036 1 0) 1037 = tp := by rw [← et]; funext i; rw [ah_m_w, if_neg (by omega)]
  have e38 : ah_m (ah_w h 1036 1 0) 1038 1 = ah_m h 1038 1 := by rw [ah_m_w, if_neg (by omega)]
  have g1 : ah_m (ah_w h 1036 1 0) 1036 1 = 0 := rfl
  have no : ∀ tl, zrch T nw tp (ah_m h 1036 58) n w = false → wpB (d + 7) 353 47 (some (.inr (.inr 1036)) :: tl) [] (ah_w h 1036 1 0) Q := by
    intro tl e
    simp (disch := omega) only [q_353_47, b_353_47, ↓w_iconst, ↓w_aload_n_0, ↓w_ireturn0, ↓w_invokevirtual_1, stw_0, stw_i, stw_l, stw_r, ofK0, ofK1, ofK2, lst1, lst2, lkill, kont_none, kont_some, Int.reduceToNat, List.length_cons, List.length_nil, Nat.reduceAdd, Nat.reduceLeDiff, Nat.zero_le, true_and, and_true, if_true, if_false, ne_eq, Int.reduceEq, Int.reduceNeg, not_false_eq_true, not_true_eq_false, ↓reduceIte, Int.reduceLT, Int.reduceLE, and_self, or_true, true_or, or_false, false_or, false_and, and_false, ah_t_w, ah_m_w, ah_n_w, lst1_0, List.tail_cons, w32_i, zbd, lst2_0, mt_1036a hG.1, c_350 hG1.1, e38]
    exact hQ0 e
  rw [wpC_B]; refine ⟨⟨Nat.zero_lt_succ _, Nat.le_of_ble_eq_true rfl⟩, ?_⟩; simp only [lent]
  by_cases e1 : ah_m h 1036 58 = 0
  · simp (disch := omega) only [q_353_0, b_353_0, ↓w_iconst, ↓w_lconst, ↓w_ldc2_w, ↓w_aload_n_0, ↓w_iload_n_1, ↓w_iload_n_2, ↓w_istore_n_2, ↓w_imul, ↓w_i2l, ↓w_getfield, ↓w_putfield_0, ↓w_nop, ↓w_ifCond_eq, ↓w_ifCond_ne, ↓w_if_icmp_ne, ↓w_invokevirtual_0, ↓w_invokevirtual_1, ↓w_invokestatic_3, stw_0, stw_i, stw_l, stw_r, ofK0, ofK1, ofK2, lst1, lst2, lkill, kont_none, kont_some, Int.reduceToNat, List.length_cons, List.length_nil, Nat.reduceAdd, Nat.reduceLeDiff, Nat.zero_le, true_and, and_true, if_true, if_false, ne_eq, Int.reduceEq, Int.reduceNeg, not_false_eq_true, not_true_eq_false, ↓reduceIte, Int.reduceLT, Int.reduceLE, and_self, or_true, true_or, or_false, false_or, false_and, and_false, ah_t_w, ah_m_w, ah_n_w, lst1_0, List.tail_cons, w32_i, zbd, lst2_0, mt_1036a hG.1, c_281 hG, c_246, en, e1]
    exact no _ (by unfold zrch; simp [e1])
  · by_cases e2 : 0 ≤ w ∧ w ≤ 3
    · by_cases e3 : n = 2 * T 1072 4
      · have ed : decide (ah_m h 1036 58 ≠ 0 ∧ (0 ≤ w ∧ w ≤ 3) ∧ n = 2 * T 1072 4) = true := decide_eq_true ⟨e1, e2, e3⟩
        unfold zrch at hQ0 hQ1 no
        rw [ed, Bool.true_and] at hQ0 hQ1 no
        cases e4 : zam T tp 0 (zn T) 0
        · simp (disch := omega) only [q_353_0, b_353_0, ↓w_iconst, ↓w_lconst, ↓w_ldc2_w, ↓w_aload_n_0, ↓w_iload_n_1, ↓w_iload_n_2, ↓w_istore_n_2, ↓w_imul, ↓w_i2l, ↓w_getfield, ↓w_putfield_0, ↓w_nop, ↓w_ifCond_eq, ↓w_ifCond_ne, ↓w_if_icmp_ne, ↓w_invokevirtual_0, ↓w_invokevirtual_1, ↓w_invokestatic_3, stw_0, stw_i, stw_l, stw_r, ofK0, ofK1, ofK2, lst1, lst2, lkill, kont_none, kont_some, Int.reduceToNat, List.length_cons, List.length_nil, Nat.reduceAdd, Nat.reduceLeDiff, Nat.zero_le, true_and, and_true, if_true, if_false, ne_eq, Int.reduceEq, Int.reduceNeg, not_false_eq_true, not_true_eq_false, ↓reduceIte, Int.reduceLT, Int.reduceLE, and_self, or_true, true_or, or_false, false_or, false_and, and_false, ah_t_w, ah_m_w, ah_n_w, lst1_0, List.tail_cons, w32_i, zbd, lst2_0, mt_1036a hG.1, c_281 hG, c_246, en, e1, e2, e3, c_281 hG1, c_354 hG1 et1, e4, zb_f]
          exact no _ e4
        · simp (disch := omega) only [q_353_0, b_353_0, q_353_53, b_353_53, ↓w_iconst, ↓w_lconst, ↓w_ldc2_w, ↓w_aload_n_0, ↓w_iload_n_1, ↓w_iload_n_2, ↓w_istore_n_2, ↓w_istore_n_3, ↓w_imul, ↓w_i2l, ↓w_getfield, ↓w_putfield_0, ↓w_nop, ↓w_ifCond_eq, ↓w_ifCond_ne, ↓w_if_icmp_ne, ↓w_invokevirtual_0, ↓w_invokevirtual_1, ↓w_invokestatic_3, stw_0, stw_i, stw_l, stw_r, ofK0, ofK1, ofK2, lst1, lst2, lkill, kont_none, kont_some, Int.reduceToNat, List.length_cons, List.length_nil, Nat.reduceAdd, Nat.reduceLeDiff, Nat.zero_le, true_and, and_true, if_true, if_false, ne_eq, Int.reduceEq, Int.reduceNeg, not_false_eq_true, not_true_eq_false, ↓reduceIte, Int.reduceLT, Int.reduceLE, and_self, or_true, true_or, or_false, false_or, false_and, and_false, ah_t_w, ah_m_w, ah_n_w, lst1_0, List.tail_cons, w32_i, zbd, lst2_0, mt_1036a hG.1, c_281 hG, c_246, en, e1, e2, e3, c_281 hG1, c_354 hG1 et1, e4, zb_t]
          rw [← e3]
          refine l_353 hG1.1 et1 (by omega) (fun h2 tl hO2 hi => ?_) _ n.toNat 0 _ (by omega) (by omega) Off_rfl (fun i a b => by omega)
          have hG2 : MG T nw h2 := MG_off hG1 hO2 (fun r i w => by unfold fre; omega)
          have ez : ∀ j, zwys T (ah_m h2 1092) j nw = zwys T (zgl tp) j nw := fun j => zwys_c (fun q a b => hi q a (by omega)) j nw
          have fin : ∀ (D : Nat) h', MG T nw h' → Off (Wv D) h2 h' → Q (.inl (some (.inl (zwys T (zgl tp) w.toNat nw)))) h' := by
            intro D h' hG' hO'
            refine hQ1 h' e4 hG' (Off_tr (Off_mono (fun r i w => by omega) hO1) (Off_tr (Off_mono (fun r i w => by omega) hO2) (Off_mono (fun r i w => by unfold Wv at w; omega) hO'))) ?_
            rw [hO'.2 _ _ (by unfold Wv; omega), hO2.2 _ _ (by omega)]; exact g1
          have : w = 0 ∨ w = 1 ∨ w = 2 ∨ w = 3 := by omega
          rcases this with e | e | e | e <;> subst e
          · simp (disch := omega) only [q_353_94, b_353_94, ↓w_aload_n_0, ↓w_iload_n_1, ↓w_goto, ↓w_ifCond_ne, ↓w_invokevirtual_0, stw_0, stw_i, stw_l, stw_r, ofK0, ofK1, ofK2, lst1, lst2, lkill, kont_none, kont_some, Int.reduceToNat, List.length_cons, List.length_nil, Nat.reduceAdd, Nat.reduceLeDiff, Nat.zero_le, true_and, and_true, if_true, if_false, ne_eq, Int.reduceEq, Int.reduceNeg, not_false_eq_true, not_true_eq_false, ↓reduceIte, Int.reduceLT, Int.reduceLE, and_self, or_true, true_or, or_false, false_or, false_and, and_false, ah_t_w, ah_m_w, ah_n_w, lst1_0, List.tail_cons, w32_i, zbd, lst2_0, mt_1036a hG2.1]
            refine u_0 hG2 rfl (fun h3 a b => ?_)
            simp (disch := omega) only [b_353_94, q_353_133, b_353_133, ↓w_aload_n_0, ↓w_iload_n_1, ↓w_goto, ↓w_ifCond_ne, ↓w_ireturn0, ↓w_invokevirtual_0, stw_0, stw_i, stw_l, stw_r, ofK0, ofK1, ofK2, lst1, lst2, lkill, kont_none, kont_some, Int.reduceToNat, List.length_cons, List.length_nil, Nat.reduceAdd, Nat.reduceLeDiff, Nat.zero_le, true_and, and_true, if_true, if_false, ne_eq, Int.reduceEq, Int.reduceNeg, not_false_eq_true, not_true_eq_false, ↓reduceIte, Int.reduceLT, Int.reduceLE, and_self, or_true, true_or, or_false, false_or, false_and, and_false, ah_t_w, ah_m_w, ah_n_w, lst1_0, List.tail_cons, w32_i, zbd, lst2_0]
            rw [ez]; exact fin 0 h3 a b
          · simp (disch := omega) only [q_353_94, b_353_94, q_353_105, b_353_105, ↓w_iconst, ↓w_aload_n_0, ↓w_iload_n_1, ↓w_goto, ↓w_ifCond_ne, ↓w_if_icmp_ne, ↓w_invokevirtual_0, stw_0, stw_i, stw_l, stw_r, ofK0, ofK1, ofK2, lst1, lst2, lkill, kont_none, kont_some, Int.reduceToNat, List.length_cons, List.length_nil, Nat.reduceAdd, Nat.reduceLeDiff, Nat.zero_le, true_and, and_true, if_true, if_false, ne_eq, Int.reduceEq, Int.reduceNeg, not_false_eq_true, not_true_eq_false, ↓reduceIte, Int.reduceLT, Int.reduceLE, and_self, or_true, true_or, or_false, false_or, false_and, and_false, ah_t_w, ah_m_w, ah_n_w, lst1_0, List.tail_cons, w32_i, zbd, lst2_0, mt_1036a hG2.1]
            refine u_1 hG2 rfl (fun h3 a b => ?_)
            simp (disch := omega) only [b_353_105, q_353_133, b_353_133, ↓w_iconst, ↓w_aload_n_0, ↓w_iload_n_1, ↓w_goto, ↓w_if_icmp_ne, ↓w_ireturn0, ↓w_invokevirtual_0, stw_0, stw_i, stw_l, stw_r, ofK0, ofK1, ofK2, lst1, lst2, lkill, kont_none, kont_some, Int.reduceToNat, List.length_cons, List.length_nil, Nat.reduceAdd, Nat.reduceLeDiff, Nat.zero_le, true_and, and_true, if_true, if_false, ne_eq, Int.reduceEq, Int.reduceNeg, not_false_eq_true, not_true_eq_false, ↓reduceIte, Int.reduceLT, Int.reduceLE, and_self, or_true, true_or, or_false, false_or, false_and, and_false, ah_t_w, ah_m_w, ah_n_w, lst1_0, List.tail_cons, w32_i, zbd, lst2_0]
            rw [ez]; exact fin 1 h3 a b
          · simp (disch := omega) only [q_353_94, b_353_94, q_353_105, b_353_105, q_353_117, b_353_117, ↓w_iconst, ↓w_aload_n_0, ↓w_iload_n_1, ↓w_goto, ↓w_ifCond_ne, ↓w_if_icmp_ne, ↓w_invokevirtual_0, stw_0, stw_i, stw_l, stw_r, ofK0, ofK1, ofK2, lst1, lst2, lkill, kont_none, kont_some, Int.reduceToNat, List.length_cons, List.length_nil, Nat.reduceAdd, Nat.reduceLeDiff, Nat.zero_le, true_and, and_true, if_true, if_false, ne_eq, Int.reduceEq, Int.reduceNeg, not_false_eq_true, not_true_eq_false, ↓reduceIte, Int.reduceLT, Int.reduceLE, and_self, or_true, true_or, or_false, false_or, false_and, and_false, ah_t_w, ah_m_w, ah_n_w, lst1_0, List.tail_cons, w32_i, zbd, lst2_0, mt_1036a hG2.1]
            refine u_2 hG2 rfl (fun h3 a b => ?_)
            simp (disch := omega) only [b_353_117, q_353_133, b_353_133, ↓w_iconst, ↓w_aload_n_0, ↓w_iload_n_1, ↓w_goto, ↓w_if_icmp_ne, ↓w_ireturn0, ↓w_invokevirtual_0, stw_0, stw_i, stw_l, stw_r, ofK0, ofK1, ofK2, lst1, lst2, lkill, kont_none, kont_some, Int.reduceToNat, List.length_cons, List.length_nil, Nat.reduceAdd, Nat.reduceLeDiff, Nat.zero_le, true_and, and_true, if_true, if_false, ne_eq, Int.reduceEq, Int.reduceNeg, not_false_eq_true, not_true_eq_false, ↓reduceIte, Int.reduceLT, Int.reduceLE, and_self, or_true, true_or, or_false, false_or, false_and, and_false, ah_t_w, ah_m_w, ah_n_w, lst1_0, List.tail_cons, w32_i, zbd, lst2_0]
            rw [ez]; exact fin 2 h3 a b
          · simp (disch := omega) only [q_353_94, b_353_94, q_353_105, b_353_105, q_353_117, b_353_117, q_353_129, b_353_129, ↓w_iconst, ↓w_aload_n_0, ↓w_iload_n_1, ↓w_nop, ↓w_goto, ↓w_ifCond_ne, ↓w_if_icmp_ne, ↓w_invokevirtual_0, stw_0, stw_i, stw_l, stw_r, ofK0, ofK1, ofK2, lst1, lst2, lkill, kont_none, kont_some, Int.reduceToNat, List.length_cons, List.length_nil, Nat.reduceAdd, Nat.reduceLeDiff, Nat.zero_le, true_and, and_true, if_true, if_false, ne_eq, Int.reduceEq, Int.reduceNeg, not_false_eq_true, not_true_eq_false, ↓reduceIte, Int.reduceLT, Int.reduceLE, and_self, or_true, true_or, or_false, false_or, false_and, and_false, ah_t_w, ah_m_w, ah_n_w, lst1_0, List.tail_cons, w32_i, zbd, lst2_0, mt_1036a hG2.1]
            refine u_3 hG2 rfl (fun h3 a b => ?_)
            simp (disch := omega) only [b_353_129, q_353_133, b_353_133, ↓w_aload_n_0, ↓w_nop, ↓w_ireturn0, ↓w_invokevirtual_0, stw_0, stw_i, stw_l, stw_r, ofK0, ofK1, ofK2, lst1, lst2, lkill, kont_none, kont_some, Int.reduceToNat, List.length_cons, List.length_nil, Nat.reduceAdd, Nat.reduceLeDiff, Nat.zero_le, true_and, and_true, if_true, if_false, ne_eq, Int.reduceEq, Int.reduceNeg, not_false_eq_true, not_true_eq_false, ↓reduceIte, Int.reduceLT, Int.reduceLE, and_self, or_true, true_or, or_false, false_or, false_and, and_false, ah_t_w, ah_m_w, ah_n_w, lst1_0, List.tail_cons, w32_i, zbd, lst2_0]
            rw [ez]; exact fin 3 h3 a b
      · simp (disch := omega) only [q_353_0, b_353_0, ↓w_iconst, ↓w_lconst, ↓w_ldc2_w, ↓w_aload_n_0, ↓w_iload_n_1, ↓w_iload_n_2, ↓w_istore_n_2, ↓w_imul, ↓w_i2l, ↓w_getfield, ↓w_putfield_0, ↓w_nop, ↓w_ifCond_eq, ↓w_ifCond_ne, ↓w_if_icmp_ne, ↓w_invokevirtual_0, ↓w_invokevirtual_1, ↓w_invokestatic_3, stw_0, stw_i, stw_l, stw_r, ofK0, ofK1, ofK2, lst1, lst2, lkill, kont_none, kont_some, Int.reduceToNat, List.length_cons, List.length_nil, Nat.reduceAdd, Nat.reduceLeDiff, Nat.zero_le, true_and, and_true, if_true, if_false, ne_eq, Int.reduceEq, Int.reduceNeg, not_false_eq_true, not_true_eq_false, ↓reduceIte, Int.reduceLT, Int.reduceLE, and_self, or_true, true_or, or_false, false_or, false_and, and_false, ah_t_w, ah_m_w, ah_n_w, lst1_0, List.tail_cons, w32_i, zbd, lst2_0, mt_1036a hG.1, c_281 hG, c_246, en, e1, e2, e3, c_281 hG1]
        exact no _ (by unfold zrch; simp [e3])
    · simp (disch := omega) only [q_353_0, b_353_0, ↓w_iconst, ↓w_lconst, ↓w_ldc2_w, ↓w_aload_n_0, ↓w_iload_n_1, ↓w_iload_n_2, ↓w_istore_n_2, ↓w_imul, ↓w_i2l, ↓w_getfield, ↓w_putfield_0, ↓w_nop, ↓w_ifCond_eq, ↓w_ifCond_ne, ↓w_if_icmp_ne, ↓w_invokevirtual_0, ↓w_invokevirtual_1, ↓w_invokestatic_3, stw_0, stw_i, stw_l, stw_r, ofK0, ofK1, ofK2, lst1, lst2, lkill, kont_none, kont_some, Int.reduceToNat, List.length_cons, List.length_nil, Nat.reduceAdd, Nat.reduceLeDiff, Nat.zero_le, true_and, and_true, if_true, if_false, ne_eq, Int.reduceEq, Int.reduceNeg, not_false_eq_true, not_true_eq_false, ↓reduceIte, Int.reduceLT, Int.reduceLE, and_self, or_true, true_or, or_false, false_or, false_and, and_false, ah_t_w, ah_m_w, ah_n_w, lst1_0, List.tail_cons, w32_i, zbd, lst2_0, mt_1036a hG.1, c_281 hG, c_246, en, e1, if_neg e2]
      exact no _ (by unfold zrch; simp; intro _ a b; exact absurd ⟨a, b⟩ e2)
end RCH
