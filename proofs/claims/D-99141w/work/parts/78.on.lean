/-! ===== M: on, feed, end ===== -/
def zfk (tp : Int → Int) (fr : Int) : Nat → Int → Bool
  | 0, _ => true
  | j + 1, f => if 256 * tp (fr + 2 * f) + tp (fr + 2 * f + 1) ≤ 999 then zfk tp fr j (f + 1) else false
def zfr (T : Int → Int → Int) : Int := 3 + 2 * T 1072 4
def zisim (T : Int → Int → Int) (tp : Int → Int) (isb n : Int) : Bool := decide (isb ≠ 0 ∧ n = zfr T + 2 * T 1072 5 + 1 ∧ tp (n - 1) = zck2 tp (n - 1).toNat 0 59 ∧ 256 * tp 0 + tp 1 ≤ 999 ∧ tp 2 ≤ 1) && (zam T tp 3 (zn T) 0 && zfk tp (zfr T) (T 1072 5).toNat 0)
def zon (T : Int → Int → Int) (tp nw : Int → Int) : Int → Int := fun i => if i = 0 then 256 * tp 0 + tp 1 else if i = 1 then tp 2 else if 2 ≤ i ∧ i < 2 + 2 * T 1072 4 then zgl tp (i + 1) else if 18 ≤ i ∧ i < 18 + T 1072 5 then 256 * tp (zfr T + 2 * (i - 18)) + tp (zfr T + 2 * (i - 18) + 1) else if i = 24 then 0 else nw i
def zby (w j : Int) : Int := iand_ (ishr_ w (8 * (3 - j))) 255
def zwd (a b c d e k : Int) : Int := if k < 4 then a else if k < 8 then b else if k < 12 then c else if k < 16 then d else e
def zfeed (tp : Int → Int) (n a b c d e k : Int) : Int → Int := fun i => if n ≤ i ∧ i < n + k then zby (zwd a b c d e (i - n)) ((i - n) % 4) else tp i
section ON
variable {d : Nat} {h h0 : AH} {Q : QQ} {x y z m k s l w a b c v n t p th D0 D1 f fr : Int} {T : Int → Int → Int} {nw g tp sr : Int → Int}
set_option maxHeartbeats 2000000
theorem l_382 (hG : MG T nw h) (et : ah_m h 1037 = tp) (hv : ∀ i, 0 ≤ i → i < 40 → 0 ≤ tp i ∧ tp i ≤ 255 ∨ n ≤ i) (hn : n = zfr T + 2 * T 1072 5 + 1) : ∀ (j : Nat) (f : Int), 0 ≤ f → f + j = T 1072 5 → wpB (d + 1) 382 96 [some (.inr (.inr 1036)), some (.inl n), some (.inl (zfr T)), some (.inl f)] [] h (fun o h1 => o = .inl (some (.inl (zb (zfk tp (zfr T) j f)))) ∧ h1 = h) := by
  have h8 := hG.2.2.2.1.2.1
  have h5 := hG.2.2.2.1.2.2.1
  unfold zfr at hn ⊢
  intro j
  induction j with
  | zero =>
    intro f f0 f1
    have hlt : ¬ f < T 1072 5 := by omega
    simp (disch := omega) only [q_382_96, b_382_96, q_382_145, b_382_145, ↓w_iconst, ↓w_sipush, ↓w_aload_n_0, ↓w_iload_n_2, ↓w_iload_n_3, ↓w_iadd, ↓w_imul, ↓w_getfield, ↓w_iaload, ↓w_if_icmp_ge, ↓w_if_icmp_le, ↓w_ireturn1, ↓w_invokevirtual_0, stw_0, stw_i, stw_l, stw_r, ofK0, ofK1, ofK2, lst1, lst2, lkill, kont_none, kont_some, Int.reduceToNat, List.length_cons, List.length_nil, Nat.reduceAdd, Nat.reduceLeDiff, Nat.zero_le, true_and, and_true, if_true, if_false, ne_eq, Int.reduceEq, Int.reduceNeg, not_false_eq_true, not_true_eq_false, ↓reduceIte, Int.reduceLT, Int.reduceLE, and_self, or_true, true_or, or_false, false_or, false_and, and_false, ah_t_w, ah_m_w, ah_n_w, lst1_0, List.tail_cons, w32_i, zbd, lst2_0, mt_1036a hG.1, mt_1037a hG.1, mt_1037b hG.1, mf_0 hG.1, c_299 hG, hlt, zfk, zb_t]
  | succ j ih =>
    intro f f0 f1
    have hlt : f < T 1072 5 := by omega
    have ih := ih (f + 1) (by omega) (by omega)
    have b1 := hv (3 + 2 * T 1072 4 + 2 * f) (by omega) (by omega)
    have b2 := hv (3 + 2 * T 1072 4 + 2 * f + 1) (by omega) (by omega)
    rw [q_382_96]
    by_cases g : 256 * tp (3 + 2 * T 1072 4 + 2 * f) + tp (3 + 2 * T 1072 4 + 2 * f + 1) ≤ 999
    · have g' : ¬ 999 < 256 * tp (3 + 2 * T 1072 4 + 2 * f) + tp (3 + 2 * T 1072 4 + 2 * f + 1) := by omega
      simp (disch := omega) only [b_382_96, q_382_139, b_382_139, ↓w_iconst, ↓w_sipush, ↓w_aload_n_0, ↓w_iload_n_2, ↓w_iload_n_3, ↓w_iinc_3, ↓w_iadd, ↓w_imul, ↓w_getfield, ↓w_iaload, ↓w_goto, ↓w_if_icmp_ge, ↓w_if_icmp_le, ↓w_ireturn1, ↓w_invokevirtual_0, stw_0, stw_i, stw_l, stw_r, ofK0, ofK1, ofK2, lst1, lst2, lkill, kont_none, kont_some, Int.reduceToNat, List.length_cons, List.length_nil, Nat.reduceAdd, Nat.reduceLeDiff, Nat.zero_le, true_and, and_true, if_true, if_false, ne_eq, Int.reduceEq, Int.reduceNeg, not_false_eq_true, not_true_eq_false, ↓reduceIte, Int.reduceLT, Int.reduceLE, and_self, or_true, true_or, or_false, false_or, false_and, and_false, ah_t_w, ah_m_w, ah_n_w, lst1_0, List.tail_cons, w32_i, zbd, lst2_0, mt_1036a hG.1, mt_1037a hG.1, mt_1037b hG.1, mf_0 hG.1, c_299 hG, et, hlt, zfk, g, g']
      exact ih
    · have g' : 999 < 256 * tp (3 + 2 * T 1072 4 + 2 * f) + tp (3 + 2 * T 1072 4 + 2 * f + 1) := by omega
      simp (disch := omega) only [b_382_96, q_382_139, b_382_139, ↓w_iconst, ↓w_sipush, ↓w_aload_n_0, ↓w_iload_n_2, ↓w_iload_n_3, ↓w_iinc_3, ↓w_iadd, ↓w_imul, ↓w_getfield, ↓w_iaload, ↓w_goto, ↓w_if_icmp_ge, ↓w_if_icmp_le, ↓w_ireturn1, ↓w_invokevirtual_0, stw_0, stw_i, stw_l, stw_r, ofK0, ofK1, ofK2, lst1, lst2, lkill, kont_none, kont_some, Int.reduceToNat, List.length_cons, List.length_nil, Nat.reduceAdd, Nat.reduceLeDiff, Nat.zero_le, true_and, and_true, if_true, if_false, ne_eq, Int.reduceEq, Int.reduceNeg, not_false_eq_true, not_true_eq_false, ↓reduceIte, Int.reduceLT, Int.reduceLE, and_self, or_true, true_or, or_false, false_or, false_and, and_false, ah_t_w, ah_m_w, ah_n_w, lst1_0, List.tail_cons, w32_i, zbd, lst2_0, mt_1036a hG.1, mt_1037a hG.1, mt_1037b hG.1, mf_0 hG.1, c_299 hG, et, hlt, zfk, g, g', zb_f]
theorem c_382 (hG : MG T nw h) (et : ah_m h 1037 = tp) (hv : TPV tp n) : wpC (d + 3) 382 [.inr (.inr 1036), .inl n] h Q ↔ Q (.inl (some (.inl (zb (zisim T tp (ah_m h 1036 58) n))))) h := by
  have h8 := hG.2.2.2.1.2.1
  have h5 := hG.2.2.2.1.2.2.1
  have no : ∀ tl, zisim T tp (ah_m h 1036 58) n = false → wpB (d + 2) 382 92 (some (.inr (.inr 1036)) :: tl) [] h (fun o h1 => o = .inl (some (.inl (zb (zisim T tp (ah_m h 1036 58) n)))) ∧ h1 = h) := by
    intro tl e
    simp (disch := omega) only [q_382_92, b_382_92, ↓w_iconst, ↓w_ireturn1, stw_0, stw_i, stw_l, stw_r, ofK0, ofK1, ofK2, lst1, lst2, lkill, kont_none, kont_some, Int.reduceToNat, List.length_cons, List.length_nil, Nat.reduceAdd, Nat.reduceLeDiff, Nat.zero_le, true_and, and_true, if_true, if_false, ne_eq, Int.reduceEq, Int.reduceNeg, not_false_eq_true, not_true_eq_false, ↓reduceIte, Int.reduceLT, Int.reduceLE, and_self, or_true, true_or, or_false, false_or, false_and, and_false, ah_t_w, ah_m_w, ah_n_w, lst1_0, List.tail_cons, w32_i, zbd, lst2_0, mt_1036a hG.1, e, zb_f]
  apply CT_iff; apply CT_of; rw [wpC_B]; refine ⟨⟨Nat.zero_lt_succ _, Nat.le_of_ble_eq_true rfl⟩, ?_⟩; simp only [lent]
  by_cases e1 : ah_m h 1036 58 = 0
  · simp (disch := omega) only [q_382_0, b_382_0, ↓w_iconst, ↓w_sipush, ↓w_aload_n_0, ↓w_iload_n_1, ↓w_iload_n_2, ↓w_istore_n_2, ↓w_iadd, ↓w_isub, ↓w_imul, ↓w_getfield, ↓w_iaload, ↓w_nop, ↓w_ifCond_eq, ↓w_if_icmp_ne, ↓w_if_icmp_gt, ↓w_invokevirtual_0, ↓w_invokestatic_2, stw_0, stw_i, stw_l, stw_r, ofK0, ofK1, ofK2, lst1, lst2, lkill, kont_none, kont_some, Int.reduceToNat, List.length_cons, List.length_nil, Nat.reduceAdd, Nat.reduceLeDiff, Nat.zero_le, true_and, and_true, if_true, if_false, ne_eq, Int.reduceEq, Int.reduceNeg, not_false_eq_true, not_true_eq_false, ↓reduceIte, Int.reduceLT, Int.reduceLE, and_self, or_true, true_or, or_false, false_or, false_and, and_false, ah_t_w, ah_m_w, ah_n_w, lst1_0, List.tail_cons, w32_i, zbd, lst2_0, mt_1036a hG.1, mt_1037a hG.1, mt_1037b hG.1, mf_0 hG.1, c_281 hG, c_299 hG, e1]
    rw [e1] at no
    exact no _ (by unfold zisim; simp)
  · by_cases e2 : n = zfr T + 2 * T 1072 5 + 1
    · have e2' : n = 3 + 2 * T 1072 4 + 2 * T 1072 5 + 1 := e2
      have b0 := hv.2 0 (by omega) (by omega)
      have b1 := hv.2 1 (by omega) (by omega)
      have b2 := hv.2 2 (by omega) (by omega)
      have c79 : ∀ {Q}, wpC (d + 2) 379 [.inr (.inr 1037), .inl (n - 1)] h Q ↔ Q (.inl (some (.inl (zck2 tp (n - 1).toNat 0 59)))) h := by
        intro Q
        have := @c_379 (d + 1) h Q (n - 1) 1037 (mt_1037a hG.1) (fun i a b => by rw [et]; exact hv.2 i a (by omega)) ⟨by omega, by rw [mt_1037b hG.1]; have := hv.1; omega⟩ (by omega)
        rw [et] at this
        exact this
      have hne : n = 3 + 2 * T 1072 4 + 2 * T 1072 5 + 1 := e2'
      by_cases e3 : tp (n - 1) = zck2 tp (n - 1).toNat 0 59
      · by_cases e4 : 256 * tp 0 + tp 1 ≤ 999
        · have e4' : ¬ 999 < 256 * tp 0 + tp 1 := by omega
          by_cases e5 : tp 2 ≤ 1
          · have e5' : ¬ 1 < tp 2 := by omega
            have ed : decide (ah_m h 1036 58 ≠ 0 ∧ n = zfr T + 2 * T 1072 5 + 1 ∧ tp (n - 1) = zck2 tp (n - 1).toNat 0 59 ∧ 256 * tp 0 + tp 1 ≤ 999 ∧ tp 2 ≤ 1) = true := decide_eq_true ⟨e1, e2, e3, e4, e5⟩
            cases e6 : zam T tp 3 (zn T) 0
            · simp (disch := omega) only [q_382_0, b_382_0, q_382_78, b_382_78, ↓w_iconst, ↓w_sipush, ↓w_aload_n_0, ↓w_iload_n_1, ↓w_iload_n_2, ↓w_istore_n_2, ↓w_iadd, ↓w_isub, ↓w_imul, ↓w_getfield, ↓w_iaload, ↓w_nop, ↓w_ifCond_eq, ↓w_ifCond_ne, ↓w_if_icmp_ne, ↓w_if_icmp_gt, ↓w_invokevirtual_0, ↓w_invokevirtual_1, ↓w_invokestatic_2, stw_0, stw_i, stw_l, stw_r, ofK0, ofK1, ofK2, lst1, lst2, lkill, kont_none, kont_some, Int.reduceToNat, List.length_cons, List.length_nil, Nat.reduceAdd, Nat.reduceLeDiff, Nat.zero_le, true_and, and_true, if_true, if_false, ne_eq, Int.reduceEq, Int.reduceNeg, not_false_eq_true, not_true_eq_false, ↓reduceIte, Int.reduceLT, Int.reduceLE, and_self, or_true, true_or, or_false, false_or, false_and, and_false, ah_t_w, ah_m_w, ah_n_w, lst1_0, List.tail_cons, w32_i, zbd, lst2_0, mt_1036a hG.1, mt_1037a hG.1, mt_1037b hG.1, mf_0 hG.1, c_281 hG, c_299 hG, et, e1, ← hne, e3, e4', e5', c79, c_354 hG et, e6, zb_f]
              exact no _ (by unfold zisim; rw [e6]; simp)
            · have : zisim T tp (ah_m h 1036 58) n = zfk tp (zfr T) (T 1072 5).toNat 0 := by unfold zisim; rw [ed, e6]; rfl
              rw [this]
              simp (disch := omega) only [q_382_0, b_382_0, q_382_78, b_382_78, q_382_94, b_382_94, ↓w_iconst, ↓w_sipush, ↓w_aload_n_0, ↓w_iload_n_1, ↓w_iload_n_2, ↓w_istore_n_2, ↓w_istore_n_3, ↓w_iadd, ↓w_isub, ↓w_imul, ↓w_getfield, ↓w_iaload, ↓w_nop, ↓w_ifCond_eq, ↓w_ifCond_ne, ↓w_if_icmp_ne, ↓w_if_icmp_gt, ↓w_invokevirtual_0, ↓w_invokevirtual_1, ↓w_invokestatic_2, stw_0, stw_i, stw_l, stw_r, ofK0, ofK1, ofK2, lst1, lst2, lkill, kont_none, kont_some, Int.reduceToNat, List.length_cons, List.length_nil, Nat.reduceAdd, Nat.reduceLeDiff, Nat.zero_le, true_and, and_true, if_true, if_false, ne_eq, Int.reduceEq, Int.reduceNeg, not_false_eq_true, not_true_eq_false, ↓reduceIte, Int.reduceLT, Int.reduceLE, and_self, or_true, true_or, or_false, false_or, false_and, and_false, ah_t_w, ah_m_w, ah_n_w, lst1_0, List.tail_cons, w32_i, zbd, lst2_0, mt_1036a hG.1, mt_1037a hG.1, mt_1037b hG.1, mf_0 hG.1, c_281 hG, c_299 hG, et, e1, ← hne, e3, e4', e5', c79, c_354 hG et, e6, zb_t]
              exact l_382 hG et (fun i a b => by by_cases q : i < n; exact Or.inl (hv.2 i a q); exact Or.inr (by omega)) e2 (T 1072 5).toNat 0 (by omega) (by omega)
          · have e5' : 1 < tp 2 := by omega
            simp (disch := omega) only [q_382_0, b_382_0, q_382_78, b_382_78, ↓w_iconst, ↓w_sipush, ↓w_aload_n_0, ↓w_iload_n_1, ↓w_iload_n_2, ↓w_istore_n_2, ↓w_iadd, ↓w_isub, ↓w_imul, ↓w_getfield, ↓w_iaload, ↓w_nop, ↓w_ifCond_eq, ↓w_ifCond_ne, ↓w_if_icmp_ne, ↓w_if_icmp_gt, ↓w_invokevirtual_0, ↓w_invokevirtual_1, ↓w_invokestatic_2, stw_0, stw_i, stw_l, stw_r, ofK0, ofK1, ofK2, lst1, lst2, lkill, kont_none, kont_some, Int.reduceToNat, List.length_cons, List.length_nil, Nat.reduceAdd, Nat.reduceLeDiff, Nat.zero_le, true_and, and_true, if_true, if_false, ne_eq, Int.reduceEq, Int.reduceNeg, not_false_eq_true, not_true_eq_false, ↓reduceIte, Int.reduceLT, Int.reduceLE, and_self, or_true, true_or, or_false, false_or, false_and, and_false, ah_t_w, ah_m_w, ah_n_w, lst1_0, List.tail_cons, w32_i, zbd, lst2_0, mt_1036a hG.1, mt_1037a hG.1, mt_1037b hG.1, mf_0 hG.1, c_281 hG, c_299 hG, et, e1, ← hne, e3, e4', e5', c79]
            exact no _ (by unfold zisim; simp [e5])
        · have e4' : 999 < 256 * tp 0 + tp 1 := by omega
          simp (disch := omega) only [q_382_0, b_382_0, ↓w_iconst, ↓w_sipush, ↓w_aload_n_0, ↓w_iload_n_1, ↓w_iload_n_2, ↓w_istore_n_2, ↓w_iadd, ↓w_isub, ↓w_imul, ↓w_getfield, ↓w_iaload, ↓w_nop, ↓w_ifCond_eq, ↓w_if_icmp_ne, ↓w_if_icmp_gt, ↓w_invokevirtual_0, ↓w_invokestatic_2, stw_0, stw_i, stw_l, stw_r, ofK0, ofK1, ofK2, lst1, lst2, lkill, kont_none, kont_some, Int.reduceToNat, List.length_cons, List.length_nil, Nat.reduceAdd, Nat.reduceLeDiff, Nat.zero_le, true_and, and_true, if_true, if_false, ne_eq, Int.reduceEq, Int.reduceNeg, not_false_eq_true, not_true_eq_false, ↓reduceIte, Int.reduceLT, Int.reduceLE, and_self, or_true, true_or, or_false, false_or, false_and, and_false, ah_t_w, ah_m_w, ah_n_w, lst1_0, List.tail_cons, w32_i, zbd, lst2_0, mt_1036a hG.1, mt_1037a hG.1, mt_1037b hG.1, mf_0 hG.1, c_281 hG, c_299 hG, et, e1, ← hne, e3, e4', c79]
          exact no _ (by unfold zisim; simp [e4])
      · simp (disch := omega) only [q_382_0, b_382_0, ↓w_iconst, ↓w_sipush, ↓w_aload_n_0, ↓w_iload_n_1, ↓w_iload_n_2, ↓w_istore_n_2, ↓w_iadd, ↓w_isub, ↓w_imul, ↓w_getfield, ↓w_iaload, ↓w_nop, ↓w_ifCond_eq, ↓w_if_icmp_ne, ↓w_if_icmp_gt, ↓w_invokevirtual_0, ↓w_invokestatic_2, stw_0, stw_i, stw_l, stw_r, ofK0, ofK1, ofK2, lst1, lst2, lkill, kont_none, kont_some, Int.reduceToNat, List.length_cons, List.length_nil, Nat.reduceAdd, Nat.reduceLeDiff, Nat.zero_le, true_and, and_true, if_true, if_false, ne_eq, Int.reduceEq, Int.reduceNeg, not_false_eq_true, not_true_eq_false, ↓reduceIte, Int.reduceLT, Int.reduceLE, and_self, or_true, true_or, or_false, false_or, false_and, and_false, ah_t_w, ah_m_w, ah_n_w, lst1_0, List.tail_cons, w32_i, zbd, lst2_0, mt_1036a hG.1, mt_1037a hG.1, mt_1037b hG.1, mf_0 hG.1, c_281 hG, c_299 hG, et, e1, ← hne, e3, c79]
        exact no _ (by unfold zisim; simp only [e3, false_and, and_false, decide_false, Bool.false_and])
    · have e2' : ¬ n = 3 + 2 * T 1072 4 + 2 * T 1072 5 + 1 := e2
      simp (disch := omega) only [q_382_0, b_382_0, ↓w_iconst, ↓w_sipush, ↓w_aload_n_0, ↓w_iload_n_1, ↓w_iload_n_2, ↓w_istore_n_2, ↓w_iadd, ↓w_isub, ↓w_imul, ↓w_getfield, ↓w_iaload, ↓w_nop, ↓w_ifCond_eq, ↓w_if_icmp_ne, ↓w_if_icmp_gt, ↓w_invokevirtual_0, ↓w_invokestatic_2, stw_0, stw_i, stw_l, stw_r, ofK0, ofK1, ofK2, lst1, lst2, lkill, kont_none, kont_some, Int.reduceToNat, List.length_cons, List.length_nil, Nat.reduceAdd, Nat.reduceLeDiff, Nat.zero_le, true_and, and_true, if_true, if_false, ne_eq, Int.reduceEq, Int.reduceNeg, not_false_eq_true, not_true_eq_false, ↓reduceIte, Int.reduceLT, Int.reduceLE, and_self, or_true, true_or, or_false, false_or, false_and, and_false, ah_t_w, ah_m_w, ah_n_w, lst1_0, List.tail_cons, w32_i, zbd, lst2_0, mt_1036a hG.1, mt_1037a hG.1, mt_1037b hG.1, mf_0 hG.1, c_281 hG, c_299 hG, et, e1, e2']
      exact no _ (by unfold zisim; simp [e2])
/-! men told stand well -/
theorem zdup_no : ∀ (j : Nat) (k : Int), zdup tp fr x y j k = false → ∀ q, k ≤ q → q < k + j → ¬ (tp (fr + 2 * q) = x ∧ tp (fr + 2 * q + 1) = y) := by
  intro j
  induction j with
  | zero => intro k e q h1 h2; omega
  | succ j ih =>
    intro k e q h1 h2
    simp only [zdup] at e
    by_cases g : tp (fr + 2 * k) = x ∧ tp (fr + 2 * k + 1) = y
    · rw [if_pos g] at e; cases e
    · rw [if_neg g] at e
      by_cases g2 : q = k
      · rw [g2]; exact g
      · exact ih _ e q (by omega) (by omega)
theorem zam_ok : ∀ (j : Nat) (m0 : Int), 0 ≤ m0 → zam T tp fr j m0 = true → ∀ m, m0 ≤ m → m < m0 + j → (tp (fr + 2 * m) = 255 ∧ tp (fr + 2 * m + 1) = 255) ∨ (tp (fr + 2 * m) < T 1074 4 ∧ tp (fr + 2 * m + 1) < T 1074 5 ∧ zdup tp fr (tp (fr + 2 * m)) (tp (fr + 2 * m + 1)) m.toNat 0 = false) := by
  intro j
  induction j with
  | zero => intro m0 h0 e m h1 h2; omega
  | succ j ih =>
    intro m0 h0 e m h1 h2
    simp only [zam] at e
    by_cases g : tp (fr + 2 * m0) = 255 ∧ tp (fr + 2 * m0 + 1) = 255
    · rw [if_pos g] at e
      by_cases g2 : m = m0
      · rw [g2]; exact Or.inl g
      · exact ih _ (by omega) e m (by omega) (by omega)
    · rw [if_neg g] at e
      by_cases g1 : tp (fr + 2 * m0) < T 1074 4 ∧ tp (fr + 2 * m0 + 1) < T 1074 5
      · rw [if_pos g1] at e
        cases g3 : zdup tp fr (tp (fr + 2 * m0)) (tp (fr + 2 * m0 + 1)) m0.toNat 0
        · rw [g3, if_neg (by decide)] at e
          by_cases g2 : m = m0
          · rw [g2]; exact Or.inr ⟨g1.1, g1.2, g3⟩
          · exact ih _ (by omega) e m (by omega) (by omega)
        · rw [g3, if_pos rfl] at e; cases e
      · rw [if_neg g1] at e; cases e
theorem NV_on (hG : MG T nw h) (hv : TPV tp n) (hn : n = zfr T + 2 * T 1072 5 + 1) (h2 : tp 2 ≤ 1) (ha : zam T tp 3 (zn T) 0 = true) : NV T (zon T tp nw) := by
  have hT := hG.2.2.2.1
  have h8 := hT.2.1
  have h5 := hT.2.2.1
  have hN := hG.2.2.2.2
  have hni := zn_i hG
  have b4 := hT.2.2.2.1; have b5 := hT.2.2.2.2.1
  unfold zfr at hn
  have hok := fun m a b => zam_ok (zn T) 0 (Int.le_refl 0) ha m a b
  have v2 : ∀ m, 0 ≤ m → m < T 1072 4 → zon T tp nw (2 + 2 * m) = zgl tp (3 + 2 * m) := by
    intro m a b; unfold zon; rw [if_neg (by omega), if_neg (by omega), if_pos (by omega)]; congr 1; omega
  have v3 : ∀ m, 0 ≤ m → m < T 1072 4 → zon T tp nw (3 + 2 * m) = zgl tp (3 + 2 * m + 1) := by
    intro m a b; unfold zon; rw [if_neg (by omega), if_neg (by omega), if_pos (by omega)]
  have w2 : ∀ m, 0 ≤ m → m < T 1072 4 → (zon T tp nw (2 + 2 * m) = -1 ∧ zon T tp nw (3 + 2 * m) = -1) ∨ ((0 ≤ zon T tp nw (2 + 2 * m) ∧ zon T tp nw (2 + 2 * m) < T 1074 4) ∧ (0 ≤ zon T tp nw (3 + 2 * m) ∧ zon T tp nw (3 + 2 * m) < T 1074 5)) := by
    intro m a b
    rw [v2 m a b, v3 m a b]
    unfold zgl
    have c1 := hv.2 (3 + 2 * m) (by omega) (by omega)
    have c2 := hv.2 (3 + 2 * m + 1) (by omega) (by omega)
    rcases hok m a (by omega) with q | q
    · rw [if_pos q.1, if_pos q.2]; exact Or.inl ⟨rfl, rfl⟩
    · rw [if_neg (by omega), if_neg (by omega)]; omega
  have key : ∀ m q, 0 ≤ m → m < T 1072 4 → 0 ≤ q → q < m → zon T tp nw (2 + 2 * m) ≠ -1 → ¬ (zon T tp nw (2 + 2 * m) = zon T tp nw (2 + 2 * q) ∧ zon T tp nw (3 + 2 * m) = zon T tp nw (3 + 2 * q)) := by
    intro m q a b a' b' hne hh
    rw [v2 m a b, v3 m a b, v2 q a' (by omega), v3 q a' (by omega)] at hh
    rw [v2 m a b] at hne
    rcases hok m a (by omega) with r | r
    · exact hne (by unfold zgl; rw [if_pos r.1])
    · have dn := zdup_no _ _ r.2.2 q a' (by omega)
      have c1 := hv.2 (3 + 2 * m) (by omega) (by omega)
      have c2 := hv.2 (3 + 2 * m + 1) (by omega) (by omega)
      have c3 := hv.2 (3 + 2 * q) (by omega) (by omega)
      have c4 := hv.2 (3 + 2 * q + 1) (by omega) (by omega)
      unfold zgl at hh
      rw [if_neg (show ¬ tp (3 + 2 * m) = 255 by omega), if_neg (show ¬ tp (3 + 2 * m + 1) = 255 by omega)] at hh
      apply dn
      have h1 := hh.1; have h2 := hh.2
      constructor
      · by_cases z : tp (3 + 2 * q) = 255
        · rw [if_pos z] at h1; omega
        · rw [if_neg z] at h1; exact h1.symm
      · by_cases z : tp (3 + 2 * q + 1) = 255
        · rw [if_pos z] at h2; omega
        · rw [if_neg z] at h2; exact h2.symm
  refine ⟨fun m a b => ?_, w2, fun m q a b a' b' hne hq hh => ?_, ?_⟩
  · by_cases g : m < T 1072 4
    · have := w2 m a g; omega
    · have := hN.1 m a b
      have e1 : zon T tp nw (2 + 2 * m) = nw (2 + 2 * m) := by
        unfold zon; rw [if_neg (by omega), if_neg (by omega), if_neg (by omega), if_neg (by omega), if_neg (by omega)]
      have e2 : zon T tp nw (3 + 2 * m) = nw (3 + 2 * m) := by
        unfold zon; rw [if_neg (by omega), if_neg (by omega), if_neg (by omega), if_neg (by omega), if_neg (by omega)]
      rw [e1, e2]; exact this
  · rcases Int.lt_or_le q m with g | g
    · exact key m q a b a' g hq hh
    · exact key q m a' b' a (by omega) (by rw [← hh.1]; exact hq) ⟨hh.1.symm, hh.2.symm⟩
  · have c2 := hv.2 2 (by omega) (by omega)
    unfold zon; rw [if_neg (by omega), if_pos rfl]; omega
theorem zfk_ok : ∀ (j : Nat) (f0 : Int), zfk tp fr j f0 = true → ∀ f, f0 ≤ f → f < f0 + j → 256 * tp (fr + 2 * f) + tp (fr + 2 * f + 1) ≤ 999 := by
  intro j
  induction j with
  | zero => intro f0 e f h1 h2; omega
  | succ j ih =>
    intro f0 e f h1 h2
    simp only [zfk] at e
    by_cases g : 256 * tp (fr + 2 * f0) + tp (fr + 2 * f0 + 1) ≤ 999
    · rw [if_pos g] at e
      by_cases g2 : f = f0
      · rw [g2]; exact g
      · exact ih _ e f (by omega) (by omega)
    · rw [if_neg g] at e; cases e
theorem FV_on (hF : FV nw) (hT : TV T) (hv : TPV tp n) (hn : n = zfr T + 2 * T 1072 5 + 1) (h0 : 256 * tp 0 + tp 1 ≤ 999) (hf : zfk tp (zfr T) (T 1072 5).toNat 0 = true) : FV (zon T tp nw) := by
  have h8 := hT.2.1
  have h5 := hT.2.2.1
  unfold zfr at hn
  have c0 := hv.2 0 (by omega) (by omega)
  have c1 := hv.2 1 (by omega) (by omega)
  refine ⟨?_, fun f a b => ?_, ?_⟩
  · unfold zon; rw [if_pos rfl]; omega
  · by_cases g : f < T 1072 5
    · have := zfk_ok _ _ hf f a (by omega)
      have e : 18 + f - 18 = f := by omega
      unfold zfr at this
      have d1 := hv.2 (3 + 2 * T 1072 4 + 2 * f) (by omega) (by omega)
      have d2 := hv.2 (3 + 2 * T 1072 4 + 2 * f + 1) (by omega) (by omega)
      unfold zon; rw [if_neg (by omega), if_neg (by omega), if_neg (by omega), if_pos (by omega), e]
      unfold zfr; omega
    · have := hF.2.1 f a b
      unfold zon; rw [if_neg (by omega), if_neg (by omega), if_neg (by omega), if_neg (by omega), if_neg (by omega)]; exact this
  · unfold zon; rw [if_neg (by omega), if_neg (by omega), if_neg (by omega), if_neg (by omega), if_pos rfl]; decide
/-! on -/
theorem l_381a (hM : MI h) (e4 : ah_m h 1072 4 = T 1072 4) (et : ah_m h 1037 = tp) (hm : 0 ≤ T 1072 4 ∧ T 1072 4 ≤ 8)
    (hQ : ∀ h' tl, Off W83 h h' → (∀ i, ah_m h' 1083 i = if 2 ≤ i ∧ i < 2 + 2 * T 1072 4 then zgl tp (i + 1) else ah_m h 1083 i) → wpB (d + 1) 381 117 (some (.inr (.inr 1036)) :: some (.inl n) :: tl) [] h' Q) :
    ∀ (j : Nat) (k : Int) h', 0 ≤ k → k + j = 2 * T 1072 4 → Off W83 h h' → (∀ i, ah_m h' 1083 i = if 2 ≤ i ∧ i < 2 + k then zgl tp (i + 1) else ah_m h 1083 i) → wpB (d + 1) 381 67 [some (.inr (.inr 1036)), some (.inl n), some (.inl k)] [] h' Q := by
  intro j
  induction j with
  | zero =>
    intro k h' k0 k1 hO hi
    have hM' : MI h' := MI_off hM hO (fun r i w => W83_f w)
    have f4 : ah_m h' 1072 4 = T 1072 4 := by rw [hO.2 _ _ (by unfold W83; omega)]; exact e4
    have hlt : ¬ k < 2 * T 1072 4 := by omega
    have ek : k = 2 * T 1072 4 := by omega
    simp (disch := omega) only [q_381_67, b_381_67, ↓w_iconst, ↓w_sipush, ↓w_aload_n_0, ↓w_iload_n_2, ↓w_iadd, ↓w_imul, ↓w_getfield, ↓w_iaload, ↓w_goto, ↓w_if_icmp_ne, ↓w_if_icmp_ge, ↓w_invokevirtual_0, stw_0, stw_i, stw_l, stw_r, ofK0, ofK1, ofK2, lst1, lst2, lkill, kont_none, kont_some, Int.reduceToNat, List.length_cons, List.length_nil, Nat.reduceAdd, Nat.reduceLeDiff, Nat.zero_le, true_and, and_true, if_true, if_false, ne_eq, Int.reduceEq, Int.reduceNeg, not_false_eq_true, not_true_eq_false, ↓reduceIte, Int.reduceLT, Int.reduceLE, and_self, or_true, true_or, or_false, false_or, false_and, and_false, ah_t_w, ah_m_w, ah_n_w, lst1_0, List.tail_cons, w32_i, zbd, lst2_0, mt_1036a hM', mt_1037a hM', mt_1037b hM', mf_0 hM', mt_1083a hM', mt_1083b hM', mf_62 hM', hlt, k_281 hM', f4]
    exact hQ _ _ hO (ek ▸ hi)
  | succ j ih =>
    intro k h' k0 k1 hO hi
    have hM' : MI h' := MI_off hM hO (fun r i w => W83_f w)
    have f4 : ah_m h' 1072 4 = T 1072 4 := by rw [hO.2 _ _ (by unfold W83; omega)]; exact e4
    have et' : ah_m h' 1037 = tp := by rw [Off_r hO (fun i w => by unfold W83 at w; omega)]; exact et
    have hlt : k < 2 * T 1072 4 := by omega
    have fin : ∀ v, v = zgl tp (3 + k) → wpB (d + 1) 381 67 [some (.inr (.inr 1036)), some (.inl n), some (.inl (k + 1))] [] (ah_w h' 1083 (2 + k) v) Q := by
      intro v ev
      refine ih (k + 1) _ (by omega) (by omega) (Off_w hO rfl) (fun i => ?_)
      rw [ah_m_w, hi i]
      by_cases e : i = 2 + k
      · rw [if_pos ⟨rfl, e⟩, if_pos (by omega), ev, e]; congr 1; omega
      · rw [if_neg (fun q => e q.2)]
        by_cases e2 : 2 ≤ i ∧ i < 2 + k
        · rw [if_pos e2, if_pos (by omega)]
        · rw [if_neg e2, if_neg (by omega)]
    unfold zgl at fin
    rw [q_381_67]
    by_cases g : tp (3 + k) = 255
    · rw [if_pos g] at fin
      simp (disch := omega) only [b_381_67, q_381_110, b_381_110, ↓w_iconst, ↓w_sipush, ↓w_aload_n_0, ↓w_iload_n_2, ↓w_iinc_2, ↓w_iadd, ↓w_imul, ↓w_getfield, ↓w_iaload, ↓w_iastore, ↓w_goto, ↓w_if_icmp_ne, ↓w_if_icmp_ge, ↓w_invokevirtual_0, stw_0, stw_i, stw_l, stw_r, ofK0, ofK1, ofK2, lst1, lst2, lkill, kont_none, kont_some, Int.reduceToNat, List.length_cons, List.length_nil, Nat.reduceAdd, Nat.reduceLeDiff, Nat.zero_le, true_and, and_true, if_true, if_false, ne_eq, Int.reduceEq, Int.reduceNeg, not_false_eq_true, not_true_eq_false, ↓reduceIte, Int.reduceLT, Int.reduceLE, and_self, or_true, true_or, or_false, false_or, false_and, and_false, ah_t_w, ah_m_w, ah_n_w, lst1_0, List.tail_cons, w32_i, zbd, lst2_0, mt_1036a hM', mt_1037a hM', mt_1037b hM', mf_0 hM', mt_1083a hM', mt_1083b hM', mf_62 hM', hlt, k_281 hM', f4, et', g]
      exact fin _ rfl
    · rw [if_neg g] at fin
      simp (disch := omega) only [b_381_67, q_381_102, b_381_102, q_381_110, b_381_110, ↓w_iconst, ↓w_sipush, ↓w_aload_n_0, ↓w_iload_n_2, ↓w_iinc_2, ↓w_iadd, ↓w_imul, ↓w_getfield, ↓w_iaload, ↓w_iastore, ↓w_nop, ↓w_goto, ↓w_if_icmp_ne, ↓w_if_icmp_ge, ↓w_invokevirtual_0, stw_0, stw_i, stw_l, stw_r, ofK0, ofK1, ofK2, lst1, lst2, lkill, kont_none, kont_some, Int.reduceToNat, List.length_cons, List.length_nil, Nat.reduceAdd, Nat.reduceLeDiff, Nat.zero_le, true_and, and_true, if_true, if_false, ne_eq, Int.reduceEq, Int.reduceNeg, not_false_eq_true, not_true_eq_false, ↓reduceIte, Int.reduceLT, Int.reduceLE, and_self, or_true, true_or, or_false, false_or, false_and, and_false, ah_t_w, ah_m_w, ah_n_w, lst1_0, List.tail_cons, w32_i, zbd, lst2_0, mt_1036a hM', mt_1037a hM', mt_1037b hM', mf_0 hM', mt_1083a hM', mt_1083b hM', mf_62 hM', hlt, k_281 hM', f4, et', g]
      exact fin _ rfl
theorem l_381b (hM : MI h) (e5 : ah_m h 1072 5 = T 1072 5) (et : ah_m h 1037 = tp) (hv : TPV tp n) (hn : n = zfr T + 2 * T 1072 5 + 1) (hm : 0 ≤ T 1072 4 ∧ T 1072 4 ≤ 8) (hf : 0 ≤ T 1072 5 ∧ T 1072 5 ≤ 6)
    (hQ : ∀ h' tl, Off W83 h h' → (∀ i, ah_m h' 1083 i = if 18 ≤ i ∧ i < 18 + T 1072 5 then 256 * tp (zfr T + 2 * (i - 18)) + tp (zfr T + 2 * (i - 18) + 1) else ah_m h 1083 i) → wpB (d + 1) 381 178 (some (.inr (.inr 1036)) :: tl) [] h' Q) (tl0 : ALoc) :
    ∀ (j : Nat) (k : Int) h', 0 ≤ k → k + j = T 1072 5 → Off W83 h h' → (∀ i, ah_m h' 1083 i = if 18 ≤ i ∧ i < 18 + k then 256 * tp (zfr T + 2 * (i - 18)) + tp (zfr T + 2 * (i - 18) + 1) else ah_m h 1083 i) → wpB (d + 1) 381 128 (some (.inr (.inr 1036)) :: some (.inl n) :: some (.inl (zfr T)) :: some (.inl k) :: tl0) [] h' Q := by
  unfold zfr at *
  intro j
  induction j with
  | zero =>
    intro k h' k0 k1 hO hi
    have hM' : MI h' := MI_off hM hO (fun r i w => W83_f w)
    have f5 : ah_m h' 1072 5 = T 1072 5 := by rw [hO.2 _ _ (by unfold W83; omega)]; exact e5
    have hlt : ¬ k < T 1072 5 := by omega
    have ek : k = T 1072 5 := by omega
    simp (disch := omega) only [q_381_128, b_381_128, ↓w_iconst, ↓w_bipush, ↓w_sipush, ↓w_aload_n_0, ↓w_iload_n_2, ↓w_iload_n_3, ↓w_iinc_3, ↓w_iadd, ↓w_imul, ↓w_getfield, ↓w_iaload, ↓w_iastore, ↓w_goto, ↓w_if_icmp_ge, ↓w_invokevirtual_0, stw_0, stw_i, stw_l, stw_r, ofK0, ofK1, ofK2, lst1, lst2, lkill, kont_none, kont_some, Int.reduceToNat, List.length_cons, List.length_nil, Nat.reduceAdd, Nat.reduceLeDiff, Nat.zero_le, true_and, and_true, if_true, if_false, ne_eq, Int.reduceEq, Int.reduceNeg, not_false_eq_true, not_true_eq_false, ↓reduceIte, Int.reduceLT, Int.reduceLE, and_self, or_true, true_or, or_false, false_or, false_and, and_false, ah_t_w, ah_m_w, ah_n_w, lst1_0, List.tail_cons, w32_i, zbd, lst2_0, mt_1036a hM', mt_1037a hM', mt_1037b hM', mf_0 hM', mt_1083a hM', mt_1083b hM', mf_62 hM', hlt, k_299 hM', f5]
    exact hQ _ _ hO (ek ▸ hi)
  | succ j ih =>
    intro k h' k0 k1 hO hi
    have hM' : MI h' := MI_off hM hO (fun r i w => W83_f w)
    have f5 : ah_m h' 1072 5 = T 1072 5 := by rw [hO.2 _ _ (by unfold W83; omega)]; exact e5
    have et' : ah_m h' 1037 = tp := by rw [Off_r hO (fun i w => by unfold W83 at w; omega)]; exact et
    have hlt : k < T 1072 5 := by omega
    have b1 := hv.2 (3 + 2 * T 1072 4 + 2 * k) (by omega) (by omega)
    have b2 := hv.2 (3 + 2 * T 1072 4 + 2 * k + 1) (by omega) (by omega)
    rw [q_381_128]
    simp (disch := omega) only [b_381_128, ↓w_iconst, ↓w_bipush, ↓w_sipush, ↓w_aload_n_0, ↓w_iload_n_2, ↓w_iload_n_3, ↓w_iinc_3, ↓w_iadd, ↓w_imul, ↓w_getfield, ↓w_iaload, ↓w_iastore, ↓w_goto, ↓w_if_icmp_ge, ↓w_invokevirtual_0, stw_0, stw_i, stw_l, stw_r, ofK0, ofK1, ofK2, lst1, lst2, lkill, kont_none, kont_some, Int.reduceToNat, List.length_cons, List.length_nil, Nat.reduceAdd, Nat.reduceLeDiff, Nat.zero_le, true_and, and_true, if_true, if_false, ne_eq, Int.reduceEq, Int.reduceNeg, not_false_eq_true, not_true_eq_false, ↓reduceIte, Int.reduceLT, Int.reduceLE, and_self, or_true, true_or, or_false, false_or, false_and, and_false, ah_t_w, ah_m_w, ah_n_w, lst1_0, List.tail_cons, w32_i, zbd, lst2_0, mt_1036a hM', mt_1037a hM', mt_1037b hM', mf_0 hM', mt_1083a hM', mt_1083b hM', mf_62 hM', hlt, k_299 hM', f5, et']
    refine ih (k + 1) _ (by omega) (by omega) (Off_w hO rfl) (fun i => ?_)
    rw [ah_m_w, hi i]
    by_cases e : i = 18 + k
    · have e' : 18 + k - 18 = k := by omega
      rw [if_pos ⟨rfl, e⟩, if_pos (by omega), e, e']
    · rw [if_neg (fun q => e q.2)]
      by_cases e2 : 18 ≤ i ∧ i < 18 + k
      · rw [if_pos e2, if_pos (by omega)]
      · rw [if_neg e2, if_neg (by omega)]
theorem c_381 (hG : MG T nw h) (hF : FV nw) (et : ah_m h 1037 = tp) (en : ah_m h 1036 1 = n) (hv : TPV tp n)
    (hQ0 : zisim T tp (ah_m h 1036 58) n = false → Q (.inl (some (.inl 0))) (ah_w (ah_w h 1036 1 0) 1038 5 (w32 (ah_m h 1038 5 + 1))))
    (hQ1 : ∀ h', zisim T tp (ah_m h 1036 58) n = true → MG T (zon T tp nw) h' → FV (zon T tp nw) → zon T tp nw 0 ≤ 999 → Off (fun r i => r = 1083 ∨ (r = 1036 ∧ (i = 1 ∨ i = 84))) h h' → ah_m h' 1036 1 = 0 → ah_m h' 1036 84 = 0 → Q (.inl (some (.inl 1))) h') : wpC (d + 4) 381 [.inr (.inr 1036)] h Q := by
  have hT := hG.2.2.2.1
  have h8 := hT.2.1
  have h5 := hT.2.2.1
  have hG1 : MG T nw (ah_w h 1036 1 0) := MG_f hG (by omega)
  have hO1 : Off (fun r i => r = 1036 ∧ i = 1) h (ah_w h 1036 1 0) := Off_w Off_rfl (by omega)
  have et1 : ah_m (ah_w h 1036 1 0) 1037 = tp := by rw [← et]; funext i; rw [ah_m_w, if_neg (by omega)]
  have e58 : ah_m (ah_w h 1036 1 0) 1036 58 = ah_m h 1036 58 := by rw [ah_m_w, if_neg (by omega)]
  rw [wpC_B]; refine ⟨⟨Nat.zero_lt_succ _, Nat.le_of_ble_eq_true rfl⟩, ?_⟩; simp only [lent]
  cases e : zisim T tp (ah_m h 1036 58) n
  · have c82 : ∀ {Q}, wpC (d + 3) 382 [.inr (.inr 1036), .inl n] (ah_w h 1036 1 0) Q ↔ Q (.inl (some (.inl 0))) (ah_w h 1036 1 0) := by
      intro Q
      have := @c_382 d (ah_w h 1036 1 0) Q n T nw tp hG1 et1 hv
      rw [e58, e] at this; exact this
    simp (disch := omega) only [q_381_0, b_381_0, ↓w_iconst, ↓w_aload_n_0, ↓w_iload_n_1, ↓w_istore_n_1, ↓w_dup2, ↓w_iadd, ↓w_getfield, ↓w_putfield_0, ↓w_iaload, ↓w_iastore, ↓w_ifCond_ne, ↓w_ireturn1, ↓w_invokevirtual_1, stw_0, stw_i, stw_l, stw_r, ofK0, ofK1, ofK2, lst1, lst2, lkill, kont_none, kont_some, Int.reduceToNat, List.length_cons, List.length_nil, Nat.reduceAdd, Nat.reduceLeDiff, Nat.zero_le, true_and, and_true, if_true, if_false, ne_eq, Int.reduceEq, Int.reduceNeg, not_false_eq_true, not_true_eq_false, ↓reduceIte, Int.reduceLT, Int.reduceLE, and_self, or_true, true_or, or_false, false_or, false_and, and_false, ah_t_w, ah_m_w, ah_n_w, lst1_0, List.tail_cons, w32_i, zbd, lst2_0, mt_1036a hG.1, mt_1038a hG.1, mt_1038b hG.1, mf_9 hG.1, en, c82]
    exact hQ0 e
  · have c82 : ∀ {Q}, wpC (d + 3) 382 [.inr (.inr 1036), .inl n] (ah_w h 1036 1 0) Q ↔ Q (.inl (some (.inl 1))) (ah_w h 1036 1 0) := by
      intro Q
      have := @c_382 d (ah_w h 1036 1 0) Q n T nw tp hG1 et1 hv
      rw [e58, e] at this; exact this
    have eu := e
    unfold zisim at eu
    simp only [Bool.and_eq_true, decide_eq_true_eq] at eu
    obtain ⟨⟨u1, u2, u3, u4, u5⟩, u6, u7⟩ := eu
    have u2' : n = 3 + 2 * T 1072 4 + 2 * T 1072 5 + 1 := u2
    have b0 := hv.2 0 (by omega) (by omega)
    have b1 := hv.2 1 (by omega) (by omega)
    have hh1 := hv.1
    have e37 : ∀ i, ah_m (ah_w h 1036 1 0) 1037 i = tp i := fun i => by rw [et1]
    have e37' : ∀ i, ah_m h 1037 i = tp i := fun i => by rw [et]
    simp (disch := omega) only [q_381_0, b_381_0, q_381_30, b_381_30, ↓w_iconst, ↓w_sipush, ↓w_aload_n_0, ↓w_iload_n_1, ↓w_istore_n_1, ↓w_istore_n_2, ↓w_dup2, ↓w_iadd, ↓w_imul, ↓w_getfield, ↓w_putfield_0, ↓w_iaload, ↓w_iastore, ↓w_nop, ↓w_ifCond_ne, ↓w_ireturn1, ↓w_invokevirtual_1, stw_0, stw_i, stw_l, stw_r, ofK0, ofK1, ofK2, lst1, lst2, lkill, kont_none, kont_some, Int.reduceToNat, List.length_cons, List.length_nil, Nat.reduceAdd, Nat.reduceLeDiff, Nat.zero_le, true_and, and_true, if_true, if_false, ne_eq, Int.reduceEq, Int.reduceNeg, not_false_eq_true, not_true_eq_false, ↓reduceIte, Int.reduceLT, Int.reduceLE, and_self, or_true, true_or, or_false, false_or, false_and, and_false, ah_t_w, ah_m_w, ah_n_w, lst1_0, List.tail_cons, w32_i, zbd, lst2_0, mt_1036a hG.1, mt_1037a hG.1, mt_1037b hG.1, mf_0 hG.1, mt_1038a hG.1, mt_1038b hG.1, mf_9 hG.1, mt_1083a hG.1, mt_1083b hG.1, mf_62 hG.1, g_1083 hG, en, c82, e37']
    generalize eh2 : ah_w (ah_w (ah_w h 1036 1 0) 1083 0 (256 * tp 0 + tp 1)) 1083 1 (tp 2) = h2
    have hO2 : Off (fun r i => r = 1083 ∨ (r = 1036 ∧ i = 1)) h h2 := by rw [← eh2]; exact Off_w (Off_w (Off_w Off_rfl (by omega)) (by omega)) (by omega)
    have hM2 : MI h2 := MI_off hG.1 hO2 (fun r i w => by unfold fre; omega)
    have er2 : ∀ i, ah_m h2 1083 i = if i = 1 then tp 2 else if i = 0 then 256 * tp 0 + tp 1 else nw i := by
      intro i; rw [← eh2, ah_m_w, ah_m_w, ah_m_w, if_neg (show ¬ ((1083 : Int) = 1036 ∧ i = 1) by omega), g_1083 hG]
      by_cases q1 : i = 1
      · rw [if_pos ⟨rfl, q1⟩, if_pos q1]
      · rw [if_neg (fun q => q1 q.2), if_neg q1]
        by_cases q0 : i = 0
        · rw [if_pos ⟨rfl, q0⟩, if_pos q0]
        · rw [if_neg (fun q => q0 q.2), if_neg q0]
    have et2 : ah_m h2 1037 = tp := by rw [Off_r hO2 (fun i w => by omega)]; exact et
    have k4 : ah_m h2 1072 4 = T 1072 4 := by rw [hO2.2 _ _ (by omega), g_1072 hG]
    refine l_381a hM2 k4 et2 h8 (fun h3 tl hO3 er3 => ?_) (2 * T 1072 4).toNat 0 h2 (by omega) (by omega) Off_rfl (fun i => by rw [if_neg (by omega)])
    have hO3' : Off (fun r i => r = 1083 ∨ (r = 1036 ∧ i = 1)) h h3 := Off_tr hO2 (Off_mono (fun r i w => Or.inl w) hO3)
    have hM3 : MI h3 := MI_off hG.1 hO3' (fun r i w => by unfold fre; omega)
    have j4 : ah_m h3 1072 4 = T 1072 4 := by rw [hO3'.2 _ _ (by omega), g_1072 hG]
    have j5 : ah_m h3 1072 5 = T 1072 5 := by rw [hO3'.2 _ _ (by omega), g_1072 hG]
    have et3 : ah_m h3 1037 = tp := by rw [Off_r hO3' (fun i w => by omega)]; exact et
    have ezf : 3 + 2 * T 1072 4 = zfr T := rfl
    simp (disch := omega) only [q_381_117, b_381_117, ↓w_iconst, ↓w_aload_n_0, ↓w_istore_n_2, ↓w_istore_n_3, ↓w_iadd, ↓w_imul, ↓w_nop, ↓w_invokevirtual_0, stw_0, stw_i, stw_l, stw_r, ofK0, ofK1, ofK2, lst1, lst2, lkill, kont_none, kont_some, Int.reduceToNat, List.length_cons, List.length_nil, Nat.reduceAdd, Nat.reduceLeDiff, Nat.zero_le, true_and, and_true, if_true, if_false, ne_eq, Int.reduceEq, Int.reduceNeg, not_false_eq_true, not_true_eq_false, ↓reduceIte, Int.reduceLT, Int.reduceLE, and_self, or_true, true_or, or_false, false_or, false_and, and_false, ah_t_w, ah_m_w, ah_n_w, lst1_0, List.tail_cons, w32_i, zbd, lst2_0, mt_1036a hM3, k_281 hM3, j4, ezf]
    refine l_381b hM3 j5 et3 hv u2 h8 h5 (fun h4 tl hO4 er4 => ?_) _ (T 1072 5).toNat 0 h3 (by omega) (by omega) Off_rfl (fun i => by rw [if_neg (by omega)])
    have hO4' : Off (fun r i => r = 1083 ∨ (r = 1036 ∧ i = 1)) h h4 := Off_tr hO3' (Off_mono (fun r i w => Or.inl w) hO4)
    have hM4 : MI h4 := MI_off hG.1 hO4' (fun r i w => by unfold fre; omega)
    simp (disch := omega) only [q_381_178, b_381_178, ↓w_iconst, ↓w_bipush, ↓w_aload_n_0, ↓w_getfield, ↓w_putfield_0, ↓w_iastore, ↓w_ireturn1, stw_0, stw_i, stw_l, stw_r, ofK0, ofK1, ofK2, lst1, lst2, lkill, kont_none, kont_some, Int.reduceToNat, List.length_cons, List.length_nil, Nat.reduceAdd, Nat.reduceLeDiff, Nat.zero_le, true_and, and_true, if_true, if_false, ne_eq, Int.reduceEq, Int.reduceNeg, not_false_eq_true, not_true_eq_false, ↓reduceIte, Int.reduceLT, Int.reduceLE, and_self, or_true, true_or, or_false, false_or, false_and, and_false, ah_t_w, ah_m_w, ah_n_w, lst1_0, List.tail_cons, w32_i, zbd, lst2_0, mt_1036a hM4, mt_1083a hM4, mt_1083b hM4, mf_62 hM4]
    generalize eh5 : ah_w (ah_w h4 1083 24 0) 1036 84 0 = h5'
    have hO5 : Off (fun r i => r = 1083 ∨ (r = 1036 ∧ (i = 1 ∨ i = 84))) h h5' := by
      rw [← eh5]; exact Off_w (Off_w (Off_mono (fun r i w => by omega) hO4') (by omega)) (by omega)
    have er5 : ah_m h5' 1083 = zon T tp nw := by
      funext i
      rw [← eh5, ah_m_w, if_neg (by omega), ah_m_w, er4 i, er3 i, er2 i]
      unfold zon
      by_cases q24 : i = 24
      · rw [if_pos ⟨rfl, q24⟩, if_neg (by omega), if_neg (by omega), if_neg (by omega), if_neg (by omega), if_pos q24]
      · rw [if_neg (fun q => q24 q.2)]
        by_cases q18 : 18 ≤ i ∧ i < 18 + T 1072 5
        · rw [if_pos q18, if_neg (by omega), if_neg (by omega), if_neg (by omega), if_pos q18]
        · rw [if_neg q18]
          by_cases q2 : 2 ≤ i ∧ i < 2 + 2 * T 1072 4
          · rw [if_pos q2, if_neg (by omega), if_neg (by omega), if_pos q2]
          · rw [if_neg q2]
            by_cases q0 : i = 0
            · rw [if_neg (by omega), if_pos q0, if_pos q0]
            · rw [if_neg q0, if_neg q0]
              by_cases q1 : i = 1
              · rw [if_pos q1, if_pos q1]
              · rw [if_neg q1, if_neg q1, if_neg q2, if_neg q18, if_neg q24]
    refine hQ1 _ e (MG_gen hG er5 (NV_on hG hv u2 u5 u6) hO5 (fun r i w => by unfold fre; omega)) (FV_on hF hT hv u2 u4 u7) (by unfold zon; rw [if_pos rfl]; exact u4) hO5 ?_ ?_
    · rw [← eh5, ah_m_w, if_neg (by omega), ah_m_w, if_neg (by omega), hO4.2 _ _ (by unfold W83; omega), hO3.2 _ _ (by unfold W83; omega), ← eh2]; rfl
    · rw [← eh5]; rfl
/-! feed, end -/
theorem l_234 {e : Int} (hM : MI h) (et : ah_m h 1037 = tp) (hn : 0 ≤ n ∧ n + 20 ≤ 1600) (hQ : ∀ h', Off (fun r i => r = 1037 ∨ (r = 1036 ∧ i = 1)) h h' → ah_m h' 1037 = zfeed tp n a b c v e 20 → ah_m h' 1036 1 = n + 20 → Q (.inl (some (.inl (n + 20)))) h') :
    ∀ (j : Nat) (k : Int) tl h', 0 ≤ k → k + j = 20 → Off (fun r i => r = 1037 ∨ (r = 1036 ∧ i = 1)) h h' → ah_m h' 1037 = zfeed tp n a b c v e k → ah_m h' 1036 1 = n + k → wpB d 234 28 (some (.inr (.inr 1036)) :: some (.inl a) :: some (.inl b) :: some (.inl c) :: some (.inl v) :: some (.inl e) :: some (.inl k) :: tl) [] h' Q := by
  intro j
  induction j with
  | zero =>
    intro k tl h' k0 k1 hO hi e1
    have hM' : MI h' := MI_off hM hO (fun r i w => by unfold fre; omega)
    have ek : k = 20 := by omega
    subst ek
    simp (disch := omega) only [q_234_28, b_234_28, q_234_124, b_234_124, ↓w_iconst, ↓w_bipush, ↓w_aload_n_0, ↓w_iload_n_1, ↓w_iload_6, ↓w_getfield, ↓w_goto, ↓w_if_icmp_ge, ↓w_ireturn0, stw_0, stw_i, stw_l, stw_r, ofK0, ofK1, ofK2, lst1, lst2, lkill, kont_none, kont_some, Int.reduceToNat, List.length_cons, List.length_nil, Nat.reduceAdd, Nat.reduceLeDiff, Nat.zero_le, true_and, and_true, if_true, if_false, ne_eq, Int.reduceEq, Int.reduceNeg, not_false_eq_true, not_true_eq_false, ↓reduceIte, Int.reduceLT, Int.reduceLE, and_self, or_true, true_or, or_false, false_or, false_and, and_false, ah_t_w, ah_m_w, ah_n_w, lst1_0, List.tail_cons, w32_i, zbd, lst2_0, mt_1036a hM', e1]
    exact hQ _ hO hi e1
  | succ j ih =>
    intro k tl h' k0 k1 hO hi e1
    have hM' : MI h' := MI_off hM hO (fun r i w => by unfold fre; omega)
    have hlt : k < 20 := by omega
    have e4 : k.tmod 4 = k % 4 := Int.tmod_eq_emod_of_nonneg k0
    have fin : ∀ tl, wpB d 234 81 (some (.inr (.inr 1036)) :: some (.inl a) :: some (.inl b) :: some (.inl c) :: some (.inl v) :: some (.inl e) :: some (.inl k) :: tl) [.inl (zwd a b c v e k)] h' Q := by
      intro tl
      simp (disch := omega) only [q_234_81, b_234_81, ↓w_iconst, ↓w_bipush, ↓w_sipush, ↓w_aload_n_0, ↓w_iload_6, ↓w_iinc_6, ↓w_iload_7, ↓w_istore, ↓w_dup_i, ↓w_dup_a, ↓w_iadd, ↓w_isub, ↓w_imul, ↓w_iand, ↓w_ishr, ↓w_irem, ↓w_getfield, ↓w_putfield_0, ↓w_iastore, ↓w_goto, stw_0, stw_i, stw_l, stw_r, ofK0, ofK1, ofK2, lst1, lst2, lkill, kont_none, kont_some, Int.reduceToNat, List.length_cons, List.length_nil, Nat.reduceAdd, Nat.reduceLeDiff, Nat.zero_le, true_and, and_true, if_true, if_false, ne_eq, Int.reduceEq, Int.reduceNeg, not_false_eq_true, not_true_eq_false, ↓reduceIte, Int.reduceLT, Int.reduceLE, and_self, or_true, true_or, or_false, false_or, false_and, and_false, ah_t_w, ah_m_w, ah_n_w, lst1_0, List.tail_cons, w32_i, zbd, lst2_0, mt_1036a hM', mt_1037a hM', mt_1037b hM', mf_0 hM', e1, e4, Int.reduceEq]
      have ez : iand_ (ishr_ (zwd a b c v e k) (8 * (3 - k % 4))) 255 = zby (zwd a b c v e k) (k % 4) := rfl
      rw [ez]
      refine ih (k + 1) _ _ (by omega) (by omega) (Off_w (Off_w hO (by omega)) (by omega)) ?_ ?_
      · funext i
        rw [ah_m_w, if_neg (by omega), ah_m_w, hi]
        unfold zfeed
        by_cases q : i = n + k
        · have q' : n + k - n = k := by omega
          rw [if_pos ⟨rfl, q⟩, if_pos (by omega), q, q']
        · rw [if_neg (fun z => q z.2)]
          by_cases q2 : n ≤ i ∧ i < n + k
          · rw [if_pos q2, if_pos (by omega)]
          · rw [if_neg q2, if_neg (by omega)]
      · rw [ah_m_w, if_pos ⟨rfl, rfl⟩]; omega
    unfold zwd at fin
    rw [q_234_28]
    by_cases g1 : k < 4
    · simp only [g1, if_true] at fin
      simp (disch := omega) only [b_234_28, ↓w_iconst, ↓w_bipush, ↓w_iload_n_1, ↓w_iload_6, ↓w_goto, ↓w_if_icmp_ge, stw_0, stw_i, stw_l, stw_r, ofK0, ofK1, ofK2, lst1, lst2, lkill, kont_none, kont_some, Int.reduceToNat, List.length_cons, List.length_nil, Nat.reduceAdd, Nat.reduceLeDiff, Nat.zero_le, true_and, and_true, if_true, if_false, ne_eq, Int.reduceEq, Int.reduceNeg, not_false_eq_true, not_true_eq_false, ↓reduceIte, Int.reduceLT, Int.reduceLE, and_self, or_true, true_or, or_false, false_or, false_and, and_false, ah_t_w, ah_m_w, ah_n_w, lst1_0, List.tail_cons, w32_i, zbd, lst2_0, hlt, g1]
      exact fin _
    · by_cases g2 : k < 8
      · simp only [g1, g2, if_true, if_false] at fin
        simp (disch := omega) only [b_234_28, q_234_45, b_234_45, ↓w_iconst, ↓w_bipush, ↓w_iload_n_1, ↓w_iload_n_2, ↓w_iload_6, ↓w_goto, ↓w_if_icmp_ge, stw_0, stw_i, stw_l, stw_r, ofK0, ofK1, ofK2, lst1, lst2, lkill, kont_none, kont_some, Int.reduceToNat, List.length_cons, List.length_nil, Nat.reduceAdd, Nat.reduceLeDiff, Nat.zero_le, true_and, and_true, if_true, if_false, ne_eq, Int.reduceEq, Int.reduceNeg, not_false_eq_true, not_true_eq_false, ↓reduceIte, Int.reduceLT, Int.reduceLE, and_self, or_true, true_or, or_false, false_or, false_and, and_false, ah_t_w, ah_m_w, ah_n_w, lst1_0, List.tail_cons, w32_i, zbd, lst2_0, hlt, g1, g2]
        exact fin _
      · by_cases g3 : k < 12
        · simp only [g1, g2, g3, if_true, if_false] at fin
          simp (disch := omega) only [b_234_28, q_234_45, b_234_45, q_234_56, b_234_56, ↓w_iconst, ↓w_bipush, ↓w_iload_n_1, ↓w_iload_n_2, ↓w_iload_n_3, ↓w_iload_6, ↓w_goto, ↓w_if_icmp_ge, stw_0, stw_i, stw_l, stw_r, ofK0, ofK1, ofK2, lst1, lst2, lkill, kont_none, kont_some, Int.reduceToNat, List.length_cons, List.length_nil, Nat.reduceAdd, Nat.reduceLeDiff, Nat.zero_le, true_and, and_true, if_true, if_false, ne_eq, Int.reduceEq, Int.reduceNeg, not_false_eq_true, not_true_eq_false, ↓reduceIte, Int.reduceLT, Int.reduceLE, and_self, or_true, true_or, or_false, false_or, false_and, and_false, ah_t_w, ah_m_w, ah_n_w, lst1_0, List.tail_cons, w32_i, zbd, lst2_0, hlt, g1, g2, g3]
          exact fin _
        · by_cases g4 : k < 16
          · simp only [g1, g2, g3, g4, if_true, if_false] at fin
            simp (disch := omega) only [b_234_28, q_234_45, b_234_45, q_234_56, b_234_56, q_234_67, b_234_67, ↓w_iconst, ↓w_bipush, ↓w_iload_n_1, ↓w_iload_n_2, ↓w_iload_n_3, ↓w_iload_4, ↓w_iload_6, ↓w_goto, ↓w_if_icmp_ge, stw_0, stw_i, stw_l, stw_r, ofK0, ofK1, ofK2, lst1, lst2, lkill, kont_none, kont_some, Int.reduceToNat, List.length_cons, List.length_nil, Nat.reduceAdd, Nat.reduceLeDiff, Nat.zero_le, true_and, and_true, if_true, if_false, ne_eq, Int.reduceEq, Int.reduceNeg, not_false_eq_true, not_true_eq_false, ↓reduceIte, Int.reduceLT, Int.reduceLE, and_self, or_true, true_or, or_false, false_or, false_and, and_false, ah_t_w, ah_m_w, ah_n_w, lst1_0, List.tail_cons, w32_i, zbd, lst2_0, hlt, g1, g2, g3, g4]
            exact fin _
          · simp only [g1, g2, g3, g4, if_false] at fin
            simp (disch := omega) only [b_234_28, q_234_45, b_234_45, q_234_56, b_234_56, q_234_67, b_234_67, q_234_79, b_234_79, ↓w_iconst, ↓w_bipush, ↓w_iload_n_1, ↓w_iload_n_2, ↓w_iload_n_3, ↓w_iload_4, ↓w_iload_5, ↓w_iload_6, ↓w_nop, ↓w_goto, ↓w_if_icmp_ge, stw_0, stw_i, stw_l, stw_r, ofK0, ofK1, ofK2, lst1, lst2, lkill, kont_none, kont_some, Int.reduceToNat, List.length_cons, List.length_nil, Nat.reduceAdd, Nat.reduceLeDiff, Nat.zero_le, true_and, and_true, if_true, if_false, ne_eq, Int.reduceEq, Int.reduceNeg, not_false_eq_true, not_true_eq_false, ↓reduceIte, Int.reduceLT, Int.reduceLE, and_self, or_true, true_or, or_false, false_or, false_and, and_false, ah_t_w, ah_m_w, ah_n_w, lst1_0, List.tail_cons, w32_i, zbd, lst2_0, hlt, g1, g2, g3, g4]
            exact fin _
theorem c_234 {e : Int} (hM : MI h) (et : ah_m h 1037 = tp) (en : ah_m h 1036 1 = n) (hn : 0 ≤ n ∧ n ≤ 1600)
    (hQ0 : 1600 < n + 20 → Q (.inl (some (.inl (-1)))) (ah_w h 1038 0 (w32 (ah_m h 1038 0 + 1))))
    (hQ1 : ∀ h', ¬ 1600 < n + 20 → Off (fun r i => r = 1037 ∨ (r = 1036 ∧ i = 1)) h h' → ah_m h' 1037 = zfeed tp n a b c v e 20 → ah_m h' 1036 1 = n + 20 → Q (.inl (some (.inl (n + 20)))) h') : wpC (d + 1) 234 [.inr (.inr 1036), .inl a, .inl b, .inl c, .inl v, .inl e] h Q := by
  rw [wpC_B]; refine ⟨⟨Nat.zero_lt_succ _, Nat.le_of_ble_eq_true rfl⟩, ?_⟩; simp only [lent]
  by_cases g : 1600 < n + 20
  · simp (disch := omega) only [q_234_0, b_234_0, ↓w_iconst, ↓w_bipush, ↓w_sipush, ↓w_aload_n_0, ↓w_dup2, ↓w_iadd, ↓w_getfield, ↓w_iaload, ↓w_iastore, ↓w_if_icmp_le, ↓w_ireturn0, stw_0, stw_i, stw_l, stw_r, ofK0, ofK1, ofK2, lst1, lst2, lkill, kont_none, kont_some, Int.reduceToNat, List.length_cons, List.length_nil, Nat.reduceAdd, Nat.reduceLeDiff, Nat.zero_le, true_and, and_true, if_true, if_false, ne_eq, Int.reduceEq, Int.reduceNeg, not_false_eq_true, not_true_eq_false, ↓reduceIte, Int.reduceLT, Int.reduceLE, and_self, or_true, true_or, or_false, false_or, false_and, and_false, ah_t_w, ah_m_w, ah_n_w, lst1_0, List.tail_cons, w32_i, zbd, lst2_0, mt_1036a hM, mt_1038a hM, mt_1038b hM, mf_9 hM, en, g]
    exact hQ0 g
  · simp (disch := omega) only [q_234_0, b_234_0, q_234_25, b_234_25, ↓w_iconst, ↓w_bipush, ↓w_sipush, ↓w_aload_n_0, ↓w_istore, ↓w_dup2, ↓w_iadd, ↓w_getfield, ↓w_iaload, ↓w_iastore, ↓w_nop, ↓w_if_icmp_le, ↓w_ireturn0, stw_0, stw_i, stw_l, stw_r, ofK0, ofK1, ofK2, lst1, lst2, lkill, kont_none, kont_some, Int.reduceToNat, List.length_cons, List.length_nil, Nat.reduceAdd, Nat.reduceLeDiff, Nat.zero_le, true_and, and_true, if_true, if_false, ne_eq, Int.reduceEq, Int.reduceNeg, not_false_eq_true, not_true_eq_false, ↓reduceIte, Int.reduceLT, Int.reduceLE, and_self, or_true, true_or, or_false, false_or, false_and, and_false, ah_t_w, ah_m_w, ah_n_w, lst1_0, List.tail_cons, w32_i, zbd, lst2_0, mt_1036a hM, mt_1038a hM, mt_1038b hM, mf_9 hM, en, g]
    exact l_234 hM et (by omega) (fun h' => hQ1 h' g) 20 0 _ _ (by omega) (by omega) Off_rfl (by rw [et]; funext i; unfold zfeed; rw [if_neg (by omega)]) (by omega)
theorem c_235 (hM : MI h) (en : ah_m h 1036 1 = n)
    (hQ0 : (w < 0 ∨ n < w) → Q (.inl (some (.inl 0))) (ah_w h 1038 0 (w32 (ah_m h 1038 0 + 1))))
    (hQ1 : ¬ (w < 0 ∨ n < w) → Q (.inl (some (.inl 1))) (ah_w h 1036 1 w)) : wpC (d + 1) 235 [.inr (.inr 1036), .inl w] h Q := by
  rw [wpC_B]; refine ⟨⟨Nat.zero_lt_succ _, Nat.le_of_ble_eq_true rfl⟩, ?_⟩; simp only [lent]
  by_cases g : w < 0
  · simp (disch := omega) only [q_235_0, b_235_0, q_235_12, b_235_12, ↓w_iconst, ↓w_aload_n_0, ↓w_iload_n_1, ↓w_dup2, ↓w_iadd, ↓w_getfield, ↓w_iaload, ↓w_iastore, ↓w_nop, ↓w_ifCond_lt, ↓w_if_icmp_le, ↓w_ireturn1, stw_0, stw_i, stw_l, stw_r, ofK0, ofK1, ofK2, lst1, lst2, lkill, kont_none, kont_some, Int.reduceToNat, List.length_cons, List.length_nil, Nat.reduceAdd, Nat.reduceLeDiff, Nat.zero_le, true_and, and_true, if_true, if_false, ne_eq, Int.reduceEq, Int.reduceNeg, not_false_eq_true, not_true_eq_false, ↓reduceIte, Int.reduceLT, Int.reduceLE, and_self, or_true, true_or, or_false, false_or, false_and, and_false, ah_t_w, ah_m_w, ah_n_w, lst1_0, List.tail_cons, w32_i, zbd, lst2_0, mt_1036a hM, mt_1038a hM, mt_1038b hM, mf_9 hM, en, g]
    exact hQ0 (Or.inl g)
  · by_cases g2 : n < w
    · simp (disch := omega) only [q_235_0, b_235_0, q_235_12, b_235_12, ↓w_iconst, ↓w_aload_n_0, ↓w_iload_n_1, ↓w_dup2, ↓w_iadd, ↓w_getfield, ↓w_iaload, ↓w_iastore, ↓w_nop, ↓w_ifCond_lt, ↓w_if_icmp_le, ↓w_ireturn1, stw_0, stw_i, stw_l, stw_r, ofK0, ofK1, ofK2, lst1, lst2, lkill, kont_none, kont_some, Int.reduceToNat, List.length_cons, List.length_nil, Nat.reduceAdd, Nat.reduceLeDiff, Nat.zero_le, true_and, and_true, if_true, if_false, ne_eq, Int.reduceEq, Int.reduceNeg, not_false_eq_true, not_true_eq_false, ↓reduceIte, Int.reduceLT, Int.reduceLE, and_self, or_true, true_or, or_false, false_or, false_and, and_false, ah_t_w, ah_m_w, ah_n_w, lst1_0, List.tail_cons, w32_i, zbd, lst2_0, mt_1036a hM, mt_1038a hM, mt_1038b hM, mf_9 hM, en, g, g2]
      exact hQ0 (Or.inr g2)
    · simp (disch := omega) only [q_235_0, b_235_0, q_235_24, b_235_24, ↓w_iconst, ↓w_aload_n_0, ↓w_iload_n_1, ↓w_getfield, ↓w_putfield_0, ↓w_nop, ↓w_ifCond_lt, ↓w_if_icmp_le, ↓w_ireturn1, stw_0, stw_i, stw_l, stw_r, ofK0, ofK1, ofK2, lst1, lst2, lkill, kont_none, kont_some, Int.reduceToNat, List.length_cons, List.length_nil, Nat.reduceAdd, Nat.reduceLeDiff, Nat.zero_le, true_and, and_true, if_true, if_false, ne_eq, Int.reduceEq, Int.reduceNeg, not_false_eq_true, not_true_eq_false, ↓reduceIte, Int.reduceLT, Int.reduceLE, and_self, or_true, true_or, or_false, false_or, false_and, and_false, ah_t_w, ah_m_w, ah_n_w, lst1_0, List.tail_cons, w32_i, zbd, lst2_0, mt_1036a hM, en, g, g2]
      exact hQ1 (fun q => q.elim g g2)
end ON
