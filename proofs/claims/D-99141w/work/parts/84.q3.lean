/-! ===== M: the pile of what waits, in the heap (printed by gen_84.py) ===== -/
def Stk (h : AH) : List Int → Prop
  | [] => True
  | x :: l => ah_m h 1118 l.length = x ∧ Stk h l
def Cods (h : AH) (cs : List Int) : Prop := ∀ i : Int, 0 ≤ i → i < cs.length → ah_m h 1117 i = zlf cs i
/-- M in the midst of a sum: w waits above w0, cs are told, o are open -/
def MQs (hm : Bool) (t : Int → Int) (n k : Int) (w0 w cs : List Int) (o : Int) (h : AH) : Prop := LX t n k h ∧ Stk h (w ++ w0) ∧ ah_m h 1036 113 = (w ++ w0).length ∧ ah_m h 1036 115 = w0.length ∧ Cods h cs ∧ ah_m h 1036 111 = cs.length ∧ ah_m h 1036 114 = o ∧ ah_m h 1036 59 = zb hm
def zoc : List Int → Int
  | [] => 0
  | v :: w => (if 12 ≤ v then 1 else 0) + zoc w
/-- bounds of it -/
def MQb (w0 w cs : List Int) (k o : Int) : Prop := (cs.length : Int) + w.length + w0.length ≤ k ∧ zoc w ≤ o ∧ o ≤ 6
def WQ (r i : Int) : Prop := r = 1117 ∨ r = 1118 ∨ (r = 1036 ∧ (i = 2 ∨ i = 4 ∨ i = 5 ∨ i = 6 ∨ i = 10 ∨ i = 44 ∨ i = 111 ∨ i = 113 ∨ i = 114))
section Q3
variable {d : Nat} {h h0 : AH} {Q : QQ} {x y z m k s l a b c v n p r o : Int} {t : Int → Int} {hm : Bool} {w0 w cs : List Int}
set_option maxHeartbeats 4000000
theorem LX_w {r i z : Int} (hX : LX t n k h) (hr : r = 1117 ∨ r = 1118 ∨ (r = 1036 ∧ (i = 111 ∨ i = 113 ∨ i = 114 ∨ i = 115 ∨ i = 59 ∨ i = 117))) : LX t n k (ah_w h r i z) := by
  obtain ⟨hM, e1, e2, e3, e4, hb, hv, he⟩ := hX
  refine ⟨MI_w hM (by unfold fre; omega), ?_, ?_, ?_, ?_, ⟨hb.1, hb.2.1, hb.2.2.1, by rw [ah_m_w, if_neg (by omega)]; exact hb.2.2.2⟩, hv, ?_⟩
  · rw [← e1]; funext j; rw [ah_m_w, if_neg (by omega)]
  · rw [ah_m_w, if_neg (by omega)]; exact e2
  · rw [ah_m_w, if_neg (by omega)]; exact e3
  · rw [ah_m_w, if_neg (by omega)]; exact e4
  · rw [ah_m_w, if_neg (by omega)]; exact he
theorem Stk_w {r k v : Int} : ∀ {st : List Int}, Stk h st → (st.length ≤ k ∨ r ≠ 1118) → Stk (ah_w h r k v) st
  | [], _, _ => trivial
  | x :: st, hp, hk => by
    refine ⟨?_, Stk_w hp.2 (by simp at hk; omega)⟩
    rw [ah_m_w, if_neg (by simp at hk; omega)]; exact hp.1
theorem Stk_off {W : Int → Int → Prop} {h' : AH} (hO : Off W h h') (hW : ∀ i, ¬ W 1118 i) : ∀ {st : List Int}, Stk h st → Stk h' st
  | [], _ => trivial
  | x :: st, hp => ⟨by rw [hO.2 _ _ (hW _)]; exact hp.1, Stk_off hO hW hp.2⟩
theorem Cods_w {r k v : Int} (hc : Cods h cs) (hk : cs.length ≤ k ∨ r ≠ 1117) : Cods (ah_w h r k v) cs := fun i a b => by
  rw [ah_m_w, if_neg (by omega)]; exact hc i a b
theorem Cods_off {W : Int → Int → Prop} {h' : AH} (hc : Cods h cs) (hO : Off W h h') (hW : ∀ i, ¬ W 1117 i) : Cods h' cs := fun i a b => by
  rw [hO.2 _ _ (hW _)]; exact hc i a b
theorem Cods_push (hc : Cods h cs) : Cods (ah_w h 1117 cs.length v) (cs ++ [v]) := fun i a b => by
  simp only [List.length_append, List.length_cons, List.length_nil] at b
  rw [ah_m_w]
  by_cases e : i = cs.length
  · rw [if_pos ⟨rfl, e⟩, zlf_end e]
  · rw [if_neg (fun q => e q.2), zlf_app a (by omega)]; exact hc i a (by omega)
/-- a move of the reader alone -/
theorem MQ_lx {W : Int → Int → Prop} {h' : AH} {k' : Int} (hQ : MQs hm t n k w0 w cs o h) (hX : LX t n k' h') (hO : Off W h h') (hW : ∀ r i, W r i → Wlx r i) : MQs hm t n k' w0 w cs o h' := by
  obtain ⟨_, a1, a2, a3, a4, a5, a6, a7⟩ := hQ
  have hn : ∀ i, i = 113 ∨ i = 115 ∨ i = 111 ∨ i = 114 ∨ i = 59 → ah_m h' 1036 i = ah_m h 1036 i := fun i hi => hO.2 _ _ (fun q => by have := hW _ _ q; unfold Wlx at this; omega)
  refine ⟨hX, Stk_off hO (fun i q => by have := hW _ _ q; unfold Wlx at this; omega) a1, ?_, ?_, Cods_off a4 hO (fun i q => by have := hW _ _ q; unfold Wlx at this; omega), ?_, ?_, ?_⟩
  · rw [hn 113 (by omega)]; exact a2
  · rw [hn 115 (by omega)]; exact a3
  · rw [hn 111 (by omega)]; exact a5
  · rw [hn 114 (by omega)]; exact a6
  · rw [hn 59 (by omega)]; exact a7
theorem c_268 (hM : MI h) (e : ah_m h 1036 111 = c) (h1 : 0 ≤ c) (h2 : c < 1700) : wpC (d + 1) 268 [.inr (.inr 1036), .inl v] h Q ↔ Q (.inl none) (ah_w (ah_w h 1117 c v) 1036 111 (c + 1)) := by
  apply CT_iff; apply CT_of; rw [wpC_B]; refine ⟨⟨Nat.zero_lt_succ _, Nat.le_of_ble_eq_true rfl⟩, ?_⟩; simp only [lent]
  simp (disch := omega) only [q_268_0, b_268_0, ↓w_iconst, ↓w_aload_n_0, ↓w_iload_n_1, ↓w_dup_i, ↓w_dup_a, ↓w_iadd, ↓w_getfield, ↓w_putfield_0, ↓w_iastore, ↓w_return, stw_0, stw_i, stw_l, stw_r, ofK0, ofK1, ofK2, lst1, lst2, lkill, kont_none, kont_some, Int.reduceToNat, List.length_cons, List.length_nil, Nat.reduceAdd, Nat.reduceLeDiff, Nat.zero_le, true_and, and_true, if_true, if_false, ne_eq, Int.reduceEq, Int.reduceNeg, not_false_eq_true, not_true_eq_false, ↓reduceIte, Int.reduceLT, Int.reduceLE, and_self, or_true, true_or, or_false, false_or, false_and, and_false, ah_t_w, ah_m_w, ah_n_w, lst1_0, List.tail_cons, w32_i, zbd, lst2_0, mt_1036a hM, mt_1117a hM, mt_1117b hM, mf_110 hM, e]
theorem MQ_code (hQ : MQs hm t n k w0 w cs o h) : MQs hm t n k w0 w (cs ++ [v]) o (ah_w (ah_w h 1117 cs.length v) 1036 111 (cs.length + 1)) := by
  obtain ⟨a0, a1, a2, a3, a4, a5, a6, a7⟩ := hQ
  refine ⟨LX_w (LX_w a0 (by omega)) (by omega), Stk_w (Stk_w a1 (by omega)) (by omega), ?_, ?_, Cods_w (Cods_push a4) (by omega), ?_, ?_, ?_⟩
  · rw [ah_m_w, if_neg (by omega), ah_m_w, if_neg (by omega)]; exact a2
  · rw [ah_m_w, if_neg (by omega), ah_m_w, if_neg (by omega)]; exact a3
  · rw [ah_m_w, if_pos ⟨rfl, rfl⟩]; simp
  · rw [ah_m_w, if_neg (by omega), ah_m_w, if_neg (by omega)]; exact a6
  · rw [ah_m_w, if_neg (by omega), ah_m_w, if_neg (by omega)]; exact a7
/-- what waits last is told -/
theorem c_270 {v : Int} (hQ : MQs hm t n k w0 (v :: w) cs o h) (hl : (cs.length : Int) + (v :: w).length + w0.length ≤ 1690) (hq : ∀ h', MQs hm t n k w0 w (cs ++ [v]) o h' → Off WQ h h' → Q (.inl none) h') : wpC (d + 2) 270 [.inr (.inr 1036)] h Q := by
  obtain ⟨a0, a1, a2, a3, a4, a5, a6, a7⟩ := hQ
  have hM := a0.1
  have e1 : ah_m h 1036 113 = ((w ++ w0).length : Int) + 1 := by rw [a2]; simp
  have e2 : ah_m h 1118 (w ++ w0).length = v := a1.1
  simp only [List.length_cons] at hl
  have hl2 : ((w ++ w0).length : Int) = w.length + w0.length := by simp
  have e3 : ((w ++ w0).length : Int) + 1 - 1 = (w ++ w0).length := by omega
  have hM1 : MI (ah_w h 1036 113 (w ++ w0).length) := MI_w hM (by unfold fre; omega)
  have f1 : ah_m (ah_w h 1036 113 (w ++ w0).length) 1036 111 = cs.length := by rw [ah_m_w, if_neg (by omega)]; exact a5
  rw [wpC_B]; refine ⟨⟨Nat.zero_lt_succ _, Nat.le_of_ble_eq_true rfl⟩, ?_⟩; simp only [lent]
  simp (disch := omega) only [q_270_0, b_270_0, ↓w_iconst, ↓w_aload_n_0, ↓w_dup_i, ↓w_dup_a, ↓w_isub, ↓w_getfield, ↓w_putfield_0, ↓w_iaload, ↓w_return, ↓w_invokevirtual_1, stw_0, stw_i, stw_l, stw_r, ofK0, ofK1, ofK2, lst1, lst2, lkill, kont_none, kont_some, Int.reduceToNat, List.length_cons, List.length_nil, Nat.reduceAdd, Nat.reduceLeDiff, Nat.zero_le, true_and, and_true, if_true, if_false, ne_eq, Int.reduceEq, Int.reduceNeg, not_false_eq_true, not_true_eq_false, ↓reduceIte, Int.reduceLT, Int.reduceLE, and_self, or_true, true_or, or_false, false_or, false_and, and_false, ah_t_w, ah_m_w, ah_n_w, lst1_0, List.tail_cons, w32_i, zbd, lst2_0, mt_1036a hM, mt_1118a hM, mt_1118b hM, mf_112 hM, e1, e2, e3, c_268 hM1 f1]
  have hQ1 : MQs hm t n k w0 w cs o (ah_w h 1036 113 (w ++ w0).length) := by
    refine ⟨LX_w a0 (by omega), Stk_w a1.2 (by omega), by rw [ah_m_w, if_pos ⟨rfl, rfl⟩], ?_, Cods_w a4 (by omega), ?_, ?_, ?_⟩
    · rw [ah_m_w, if_neg (by omega)]; exact a3
    · rw [ah_m_w, if_neg (by omega)]; exact a5
    · rw [ah_m_w, if_neg (by omega)]; exact a6
    · rw [ah_m_w, if_neg (by omega)]; exact a7
  exact hq _ (MQ_code hQ1) (Off_w (Off_w (Off_w Off_rfl (by unfold WQ; omega)) (by unfold WQ; omega)) (by unfold WQ; omega))
def zon2 (v : Int) : List Int → Int
  | [] => 0
  | x :: _ => if x = v then 1 else 0
theorem c_273 : wpC (d + 1) 273 [.inl c] h Q ↔ Q (.inl (some (.inl (zb (zib c))))) h := by
  unfold zib
  apply CT_iff; apply CT_of; rw [wpC_B]; refine ⟨⟨Nat.zero_lt_succ _, Nat.le_of_ble_eq_true rfl⟩, ?_⟩; simp only [lent]
  by_cases e1 : c < 20
  · have e2 : decide (20 ≤ c ∧ c ≤ 24) = false := decide_eq_false (by omega)
    simp (disch := omega) only [q_273_0, b_273_0, q_273_16, b_273_16, q_273_17, b_273_17, ↓w_iconst, ↓w_bipush, ↓w_iload_n_0, ↓w_nop, ↓w_goto, ↓w_if_icmp_lt, ↓w_if_icmp_gt, ↓w_ireturn1, stw_0, stw_i, stw_l, stw_r, ofK0, ofK1, ofK2, lst1, lst2, lkill, kont_none, kont_some, Int.reduceToNat, List.length_cons, List.length_nil, Nat.reduceAdd, Nat.reduceLeDiff, Nat.zero_le, true_and, and_true, if_true, if_false, ne_eq, Int.reduceEq, Int.reduceNeg, not_false_eq_true, not_true_eq_false, ↓reduceIte, Int.reduceLT, Int.reduceLE, and_self, or_true, true_or, or_false, false_or, false_and, and_false, ah_t_w, ah_m_w, ah_n_w, lst1_0, List.tail_cons, w32_i, zbd, lst2_0, e1, e2, zb_f]
  · by_cases e3 : 24 < c
    · have e2 : decide (20 ≤ c ∧ c ≤ 24) = false := decide_eq_false (by omega)
      simp (disch := omega) only [q_273_0, b_273_0, q_273_16, b_273_16, q_273_17, b_273_17, ↓w_iconst, ↓w_bipush, ↓w_iload_n_0, ↓w_nop, ↓w_goto, ↓w_if_icmp_lt, ↓w_if_icmp_gt, ↓w_ireturn1, stw_0, stw_i, stw_l, stw_r, ofK0, ofK1, ofK2, lst1, lst2, lkill, kont_none, kont_some, Int.reduceToNat, List.length_cons, List.length_nil, Nat.reduceAdd, Nat.reduceLeDiff, Nat.zero_le, true_and, and_true, if_true, if_false, ne_eq, Int.reduceEq, Int.reduceNeg, not_false_eq_true, not_true_eq_false, ↓reduceIte, Int.reduceLT, Int.reduceLE, and_self, or_true, true_or, or_false, false_or, false_and, and_false, ah_t_w, ah_m_w, ah_n_w, lst1_0, List.tail_cons, w32_i, zbd, lst2_0, e1, e2, e3, zb_f]
    · have e2 : decide (20 ≤ c ∧ c ≤ 24) = true := decide_eq_true (by omega)
      simp (disch := omega) only [q_273_0, b_273_0, q_273_16, b_273_16, q_273_17, b_273_17, ↓w_iconst, ↓w_bipush, ↓w_iload_n_0, ↓w_nop, ↓w_goto, ↓w_if_icmp_lt, ↓w_if_icmp_gt, ↓w_ireturn1, stw_0, stw_i, stw_l, stw_r, ofK0, ofK1, ofK2, lst1, lst2, lkill, kont_none, kont_some, Int.reduceToNat, List.length_cons, List.length_nil, Nat.reduceAdd, Nat.reduceLeDiff, Nat.zero_le, true_and, and_true, if_true, if_false, ne_eq, Int.reduceEq, Int.reduceNeg, not_false_eq_true, not_true_eq_false, ↓reduceIte, Int.reduceLT, Int.reduceLE, and_self, or_true, true_or, or_false, false_or, false_and, and_false, ah_t_w, ah_m_w, ah_n_w, lst1_0, List.tail_cons, w32_i, zbd, lst2_0, e1, e2, e3, zb_t]
theorem c_275 (hQ : MQs hm t n k w0 w cs o h) (hl : (w.length : Int) + w0.length ≤ 1690) : wpC (d + 1) 275 [.inr (.inr 1036), .inl v] h Q ↔ Q (.inl (some (.inl (zon2 v (w ++ w0))))) h := by
  obtain ⟨a0, a1, a2, a3, a4, a5, a6, a7⟩ := hQ
  have hM := a0.1
  have hl2 : ((w ++ w0).length : Int) = w.length + w0.length := by simp
  generalize w ++ w0 = l at *
  apply CT_iff; apply CT_of; rw [wpC_B]; refine ⟨⟨Nat.zero_lt_succ _, Nat.le_of_ble_eq_true rfl⟩, ?_⟩; simp only [lent]
  match l, a1, a2, hl2 with
  | [], _, a2, _ =>
    simp only [List.length_nil, Int.natCast_zero, Int.cast_ofNat_Int] at a2
    simp (disch := omega) only [q_275_0, b_275_0, q_275_26, b_275_26, q_275_27, b_275_27, ↓w_iconst, ↓w_aload_n_0, ↓w_iload_n_1, ↓w_isub, ↓w_getfield, ↓w_iaload, ↓w_nop, ↓w_goto, ↓w_if_icmp_ne, ↓w_ifCond_le, ↓w_ireturn1, stw_0, stw_i, stw_l, stw_r, ofK0, ofK1, ofK2, lst1, lst2, lkill, kont_none, kont_some, Int.reduceToNat, List.length_cons, List.length_nil, Nat.reduceAdd, Nat.reduceLeDiff, Nat.zero_le, true_and, and_true, if_true, if_false, ne_eq, Int.reduceEq, Int.reduceNeg, not_false_eq_true, not_true_eq_false, ↓reduceIte, Int.reduceLT, Int.reduceLE, and_self, or_true, true_or, or_false, false_or, false_and, and_false, ah_t_w, ah_m_w, ah_n_w, lst1_0, List.tail_cons, w32_i, zbd, lst2_0, mt_1036a hM, mt_1118a hM, mt_1118b hM, mf_112 hM, a2, zon2]
  | x :: l, a1, a2, hl2 =>
    have e1 : ah_m h 1036 113 = (l.length : Int) + 1 := by rw [a2]; simp
    have e2 := a1.1
    have e3 : (l.length : Int) + 1 - 1 = l.length := by omega
    have e4 : 0 < (l.length : Int) + 1 := by omega
    simp only [List.length_cons] at hl2
    by_cases g : x = v
    · simp (disch := omega) only [q_275_0, b_275_0, q_275_26, b_275_26, q_275_27, b_275_27, ↓w_iconst, ↓w_aload_n_0, ↓w_iload_n_1, ↓w_isub, ↓w_getfield, ↓w_iaload, ↓w_nop, ↓w_goto, ↓w_if_icmp_ne, ↓w_ifCond_le, ↓w_ireturn1, stw_0, stw_i, stw_l, stw_r, ofK0, ofK1, ofK2, lst1, lst2, lkill, kont_none, kont_some, Int.reduceToNat, List.length_cons, List.length_nil, Nat.reduceAdd, Nat.reduceLeDiff, Nat.zero_le, true_and, and_true, if_true, if_false, ne_eq, Int.reduceEq, Int.reduceNeg, not_false_eq_true, not_true_eq_false, ↓reduceIte, Int.reduceLT, Int.reduceLE, and_self, or_true, true_or, or_false, false_or, false_and, and_false, ah_t_w, ah_m_w, ah_n_w, lst1_0, List.tail_cons, w32_i, zbd, lst2_0, mt_1036a hM, mt_1118a hM, mt_1118b hM, mf_112 hM, e1, e2, e3, e4, g, zon2]
    · simp (disch := omega) only [q_275_0, b_275_0, q_275_26, b_275_26, q_275_27, b_275_27, ↓w_iconst, ↓w_aload_n_0, ↓w_iload_n_1, ↓w_isub, ↓w_getfield, ↓w_iaload, ↓w_nop, ↓w_goto, ↓w_if_icmp_ne, ↓w_ifCond_le, ↓w_ireturn1, stw_0, stw_i, stw_l, stw_r, ofK0, ofK1, ofK2, lst1, lst2, lkill, kont_none, kont_some, Int.reduceToNat, List.length_cons, List.length_nil, Nat.reduceAdd, Nat.reduceLeDiff, Nat.zero_le, true_and, and_true, if_true, if_false, ne_eq, Int.reduceEq, Int.reduceNeg, not_false_eq_true, not_true_eq_false, ↓reduceIte, Int.reduceLT, Int.reduceLE, and_self, or_true, true_or, or_false, false_or, false_and, and_false, ah_t_w, ah_m_w, ah_n_w, lst1_0, List.tail_cons, w32_i, zbd, lst2_0, mt_1036a hM, mt_1118a hM, mt_1118b hM, mf_112 hM, e1, e2, e3, e4, g, zon2]

theorem c_264 (hQ : MQs hm t n k w0 w cs o h) (hs : zsk t n k = k) : wpC (d + 3) 264 [.inr (.inr 1036)] h Q ↔ Q (.inl (some (.inl (zqw hm t n k)))) h := by
  have hX := hQ.1
  have hM := hX.1
  have e59 := hQ.2.2.2.2.2.2.2
  apply CT_iff; apply CT_of; rw [wpC_B]; refine ⟨⟨Nat.zero_lt_succ _, Nat.le_of_ble_eq_true rfl⟩, ?_⟩; simp only [lent]
  unfold zqw
  cases e0 : zhw t n k [116, 97, 107, 101, 110]
  rotate_left
  · simp (disch := omega) only [q_264_0, b_264_0, ↓w_iconst, ↓w_aload_n_0, ↓w_getfield, ↓w_ifCond_eq, ↓w_ireturn0, ↓w_invokevirtual_1, stw_0, stw_i, stw_l, stw_r, ofK0, ofK1, ofK2, lst1, lst2, lkill, kont_none, kont_some, Int.reduceToNat, List.length_cons, List.length_nil, Nat.reduceAdd, Nat.reduceLeDiff, Nat.zero_le, true_and, and_true, if_true, if_false, ne_eq, Int.reduceEq, Int.reduceNeg, not_false_eq_true, not_true_eq_false, ↓reduceIte, Int.reduceLT, Int.reduceLE, and_self, or_true, true_or, or_false, false_or, false_and, and_false, ah_t_w, ah_m_w, ah_n_w, lst1_0, List.tail_cons, w32_i, zbd, lst2_0, mt_1036a hM, mt_1106a hM, mt_1106b hM, mf_99 hM, c_240n hX (wb_1106 hM) (by decide) hs, e0, zb_t, zb_f, Bool.false_eq_true]
  cases e1 : zhw t n k [99, 104, 101, 99, 107]
  rotate_left
  · simp (disch := omega) only [q_264_0, b_264_0, q_264_13, b_264_13, ↓w_iconst, ↓w_aload_n_0, ↓w_getfield, ↓w_ifCond_eq, ↓w_ireturn0, ↓w_invokevirtual_1, stw_0, stw_i, stw_l, stw_r, ofK0, ofK1, ofK2, lst1, lst2, lkill, kont_none, kont_some, Int.reduceToNat, List.length_cons, List.length_nil, Nat.reduceAdd, Nat.reduceLeDiff, Nat.zero_le, true_and, and_true, if_true, if_false, ne_eq, Int.reduceEq, Int.reduceNeg, not_false_eq_true, not_true_eq_false, ↓reduceIte, Int.reduceLT, Int.reduceLE, and_self, or_true, true_or, or_false, false_or, false_and, and_false, ah_t_w, ah_m_w, ah_n_w, lst1_0, List.tail_cons, w32_i, zbd, lst2_0, mt_1036a hM, mt_1106a hM, mt_1106b hM, mf_99 hM, mt_1107a hM, mt_1107b hM, mf_100 hM, c_240n hX (wb_1106 hM) (by decide) hs, c_240n hX (wb_1107 hM) (by decide) hs, e0, e1, zb_t, zb_f, Bool.false_eq_true]
  cases e2 : zhw t n k [111, 102, 102]
  rotate_left
  · cases hm <;> (simp (disch := omega) only [q_264_0, b_264_0, q_264_13, b_264_13, q_264_26, b_264_26, q_264_48, b_264_48, q_264_50, b_264_50, ↓w_iconst, ↓w_bipush, ↓w_aload_n_0, ↓w_getfield, ↓w_nop, ↓w_goto, ↓w_ifCond_eq, ↓w_ireturn0, ↓w_invokevirtual_1, stw_0, stw_i, stw_l, stw_r, ofK0, ofK1, ofK2, lst1, lst2, lkill, kont_none, kont_some, Int.reduceToNat, List.length_cons, List.length_nil, Nat.reduceAdd, Nat.reduceLeDiff, Nat.zero_le, true_and, and_true, if_true, if_false, ne_eq, Int.reduceEq, Int.reduceNeg, not_false_eq_true, not_true_eq_false, ↓reduceIte, Int.reduceLT, Int.reduceLE, and_self, or_true, true_or, or_false, false_or, false_and, and_false, ah_t_w, ah_m_w, ah_n_w, lst1_0, List.tail_cons, w32_i, zbd, lst2_0, mt_1036a hM, mt_1106a hM, mt_1106b hM, mf_99 hM, mt_1107a hM, mt_1107b hM, mf_100 hM, mt_1108a hM, mt_1108b hM, mf_101 hM, c_240n hX (wb_1106 hM) (by decide) hs, c_240n hX (wb_1107 hM) (by decide) hs, c_240n hX (wb_1108 hM) (by decide) hs, e0, e1, e2, e59, zb_t, zb_f, Bool.false_eq_true])
  cases e3 : zhw t n k [100, 97, 121]
  rotate_left
  · simp (disch := omega) only [q_264_0, b_264_0, q_264_13, b_264_13, q_264_26, b_264_26, q_264_51, b_264_51, ↓w_iconst, ↓w_aload_n_0, ↓w_getfield, ↓w_goto, ↓w_ifCond_eq, ↓w_ireturn0, ↓w_invokevirtual_1, stw_0, stw_i, stw_l, stw_r, ofK0, ofK1, ofK2, lst1, lst2, lkill, kont_none, kont_some, Int.reduceToNat, List.length_cons, List.length_nil, Nat.reduceAdd, Nat.reduceLeDiff, Nat.zero_le, true_and, and_true, if_true, if_false, ne_eq, Int.reduceEq, Int.reduceNeg, not_false_eq_true, not_true_eq_false, ↓reduceIte, Int.reduceLT, Int.reduceLE, and_self, or_true, true_or, or_false, false_or, false_and, and_false, ah_t_w, ah_m_w, ah_n_w, lst1_0, List.tail_cons, w32_i, zbd, lst2_0, mt_1036a hM, mt_1106a hM, mt_1106b hM, mf_99 hM, mt_1107a hM, mt_1107b hM, mf_100 hM, mt_1108a hM, mt_1108b hM, mf_101 hM, mt_1109a hM, mt_1109b hM, mf_102 hM, c_240n hX (wb_1106 hM) (by decide) hs, c_240n hX (wb_1107 hM) (by decide) hs, c_240n hX (wb_1108 hM) (by decide) hs, c_240n hX (wb_1109 hM) (by decide) hs, e0, e1, e2, e3, zb_t, zb_f, Bool.false_eq_true]
  cases e4 : zhw t n k [110, 117, 109, 98, 101, 114]
  rotate_left
  · simp (disch := omega) only [q_264_0, b_264_0, q_264_13, b_264_13, q_264_26, b_264_26, q_264_51, b_264_51, q_264_64, b_264_64, ↓w_iconst, ↓w_aload_n_0, ↓w_getfield, ↓w_goto, ↓w_ifCond_eq, ↓w_ireturn0, ↓w_invokevirtual_1, stw_0, stw_i, stw_l, stw_r, ofK0, ofK1, ofK2, lst1, lst2, lkill, kont_none, kont_some, Int.reduceToNat, List.length_cons, List.length_nil, Nat.reduceAdd, Nat.reduceLeDiff, Nat.zero_le, true_and, and_true, if_true, if_false, ne_eq, Int.reduceEq, Int.reduceNeg, not_false_eq_true, not_true_eq_false, ↓reduceIte, Int.reduceLT, Int.reduceLE, and_self, or_true, true_or, or_false, false_or, false_and, and_false, ah_t_w, ah_m_w, ah_n_w, lst1_0, List.tail_cons, w32_i, zbd, lst2_0, mt_1036a hM, mt_1106a hM, mt_1106b hM, mf_99 hM, mt_1107a hM, mt_1107b hM, mf_100 hM, mt_1108a hM, mt_1108b hM, mf_101 hM, mt_1109a hM, mt_1109b hM, mf_102 hM, mt_1110a hM, mt_1110b hM, mf_103 hM, c_240n hX (wb_1106 hM) (by decide) hs, c_240n hX (wb_1107 hM) (by decide) hs, c_240n hX (wb_1108 hM) (by decide) hs, c_240n hX (wb_1109 hM) (by decide) hs, c_240n hX (wb_1110 hM) (by decide) hs, e0, e1, e2, e3, e4, zb_t, zb_f, Bool.false_eq_true]
  cases e5 : zhw t n k [99, 111, 108, 117, 109, 110]
  rotate_left
  · simp (disch := omega) only [q_264_0, b_264_0, q_264_13, b_264_13, q_264_26, b_264_26, q_264_51, b_264_51, q_264_64, b_264_64, q_264_77, b_264_77, ↓w_iconst, ↓w_aload_n_0, ↓w_getfield, ↓w_goto, ↓w_ifCond_eq, ↓w_ireturn0, ↓w_invokevirtual_1, stw_0, stw_i, stw_l, stw_r, ofK0, ofK1, ofK2, lst1, lst2, lkill, kont_none, kont_some, Int.reduceToNat, List.length_cons, List.length_nil, Nat.reduceAdd, Nat.reduceLeDiff, Nat.zero_le, true_and, and_true, if_true, if_false, ne_eq, Int.reduceEq, Int.reduceNeg, not_false_eq_true, not_true_eq_false, ↓reduceIte, Int.reduceLT, Int.reduceLE, and_self, or_true, true_or, or_false, false_or, false_and, and_false, ah_t_w, ah_m_w, ah_n_w, lst1_0, List.tail_cons, w32_i, zbd, lst2_0, mt_1036a hM, mt_1106a hM, mt_1106b hM, mf_99 hM, mt_1107a hM, mt_1107b hM, mf_100 hM, mt_1108a hM, mt_1108b hM, mf_101 hM, mt_1109a hM, mt_1109b hM, mf_102 hM, mt_1110a hM, mt_1110b hM, mf_103 hM, mt_1111a hM, mt_1111b hM, mf_104 hM, c_240n hX (wb_1106 hM) (by decide) hs, c_240n hX (wb_1107 hM) (by decide) hs, c_240n hX (wb_1108 hM) (by decide) hs, c_240n hX (wb_1109 hM) (by decide) hs, c_240n hX (wb_1110 hM) (by decide) hs, c_240n hX (wb_1111 hM) (by decide) hs, e0, e1, e2, e3, e4, e5, zb_t, zb_f, Bool.false_eq_true]
  cases e6 : zhw t n k [114, 111, 119]
  rotate_left
  · simp (disch := omega) only [q_264_0, b_264_0, q_264_13, b_264_13, q_264_26, b_264_26, q_264_51, b_264_51, q_264_64, b_264_64, q_264_77, b_264_77, q_264_90, b_264_90, ↓w_iconst, ↓w_bipush, ↓w_aload_n_0, ↓w_getfield, ↓w_goto, ↓w_ifCond_eq, ↓w_ireturn0, ↓w_invokevirtual_1, stw_0, stw_i, stw_l, stw_r, ofK0, ofK1, ofK2, lst1, lst2, lkill, kont_none, kont_some, Int.reduceToNat, List.length_cons, List.length_nil, Nat.reduceAdd, Nat.reduceLeDiff, Nat.zero_le, true_and, and_true, if_true, if_false, ne_eq, Int.reduceEq, Int.reduceNeg, not_false_eq_true, not_true_eq_false, ↓reduceIte, Int.reduceLT, Int.reduceLE, and_self, or_true, true_or, or_false, false_or, false_and, and_false, ah_t_w, ah_m_w, ah_n_w, lst1_0, List.tail_cons, w32_i, zbd, lst2_0, mt_1036a hM, mt_1106a hM, mt_1106b hM, mf_99 hM, mt_1107a hM, mt_1107b hM, mf_100 hM, mt_1108a hM, mt_1108b hM, mf_101 hM, mt_1109a hM, mt_1109b hM, mf_102 hM, mt_1110a hM, mt_1110b hM, mf_103 hM, mt_1111a hM, mt_1111b hM, mf_104 hM, mt_1112a hM, mt_1112b hM, mf_105 hM, c_240n hX (wb_1106 hM) (by decide) hs, c_240n hX (wb_1107 hM) (by decide) hs, c_240n hX (wb_1108 hM) (by decide) hs, c_240n hX (wb_1109 hM) (by decide) hs, c_240n hX (wb_1110 hM) (by decide) hs, c_240n hX (wb_1111 hM) (by decide) hs, c_240n hX (wb_1112 hM) (by decide) hs, e0, e1, e2, e3, e4, e5, e6, zb_t, zb_f, Bool.false_eq_true]
  cases e7 : zhw t n k [115, 105, 100, 101]
  rotate_left
  · simp (disch := omega) only [q_264_0, b_264_0, q_264_13, b_264_13, q_264_26, b_264_26, q_264_51, b_264_51, q_264_64, b_264_64, q_264_77, b_264_77, q_264_90, b_264_90, q_264_104, b_264_104, ↓w_iconst, ↓w_bipush, ↓w_aload_n_0, ↓w_getfield, ↓w_goto, ↓w_ifCond_eq, ↓w_ireturn0, ↓w_invokevirtual_1, stw_0, stw_i, stw_l, stw_r, ofK0, ofK1, ofK2, lst1, lst2, lkill, kont_none, kont_some, Int.reduceToNat, List.length_cons, List.length_nil, Nat.reduceAdd, Nat.reduceLeDiff, Nat.zero_le, true_and, and_true, if_true, if_false, ne_eq, Int.reduceEq, Int.reduceNeg, not_false_eq_true, not_true_eq_false, ↓reduceIte, Int.reduceLT, Int.reduceLE, and_self, or_true, true_or, or_false, false_or, false_and, and_false, ah_t_w, ah_m_w, ah_n_w, lst1_0, List.tail_cons, w32_i, zbd, lst2_0, mt_1036a hM, mt_1106a hM, mt_1106b hM, mf_99 hM, mt_1107a hM, mt_1107b hM, mf_100 hM, mt_1108a hM, mt_1108b hM, mf_101 hM, mt_1109a hM, mt_1109b hM, mf_102 hM, mt_1110a hM, mt_1110b hM, mf_103 hM, mt_1111a hM, mt_1111b hM, mf_104 hM, mt_1112a hM, mt_1112b hM, mf_105 hM, mt_1113a hM, mt_1113b hM, mf_106 hM, c_240n hX (wb_1106 hM) (by decide) hs, c_240n hX (wb_1107 hM) (by decide) hs, c_240n hX (wb_1108 hM) (by decide) hs, c_240n hX (wb_1109 hM) (by decide) hs, c_240n hX (wb_1110 hM) (by decide) hs, c_240n hX (wb_1111 hM) (by decide) hs, c_240n hX (wb_1112 hM) (by decide) hs, c_240n hX (wb_1113 hM) (by decide) hs, e0, e1, e2, e3, e4, e5, e6, e7, zb_t, zb_f, Bool.false_eq_true]
  cases e8 : zhw t n k [119, 111, 114, 116, 104]
  rotate_left
  · simp (disch := omega) only [q_264_0, b_264_0, q_264_13, b_264_13, q_264_26, b_264_26, q_264_51, b_264_51, q_264_64, b_264_64, q_264_77, b_264_77, q_264_90, b_264_90, q_264_104, b_264_104, q_264_118, b_264_118, ↓w_iconst, ↓w_bipush, ↓w_aload_n_0, ↓w_getfield, ↓w_goto, ↓w_ifCond_eq, ↓w_ireturn0, ↓w_invokevirtual_1, stw_0, stw_i, stw_l, stw_r, ofK0, ofK1, ofK2, lst1, lst2, lkill, kont_none, kont_some, Int.reduceToNat, List.length_cons, List.length_nil, Nat.reduceAdd, Nat.reduceLeDiff, Nat.zero_le, true_and, and_true, if_true, if_false, ne_eq, Int.reduceEq, Int.reduceNeg, not_false_eq_true, not_true_eq_false, ↓reduceIte, Int.reduceLT, Int.reduceLE, and_self, or_true, true_or, or_false, false_or, false_and, and_false, ah_t_w, ah_m_w, ah_n_w, lst1_0, List.tail_cons, w32_i, zbd, lst2_0, mt_1036a hM, mt_1106a hM, mt_1106b hM, mf_99 hM, mt_1107a hM, mt_1107b hM, mf_100 hM, mt_1108a hM, mt_1108b hM, mf_101 hM, mt_1109a hM, mt_1109b hM, mf_102 hM, mt_1110a hM, mt_1110b hM, mf_103 hM, mt_1111a hM, mt_1111b hM, mf_104 hM, mt_1112a hM, mt_1112b hM, mf_105 hM, mt_1113a hM, mt_1113b hM, mf_106 hM, mt_1114a hM, mt_1114b hM, mf_107 hM, c_240n hX (wb_1106 hM) (by decide) hs, c_240n hX (wb_1107 hM) (by decide) hs, c_240n hX (wb_1108 hM) (by decide) hs, c_240n hX (wb_1109 hM) (by decide) hs, c_240n hX (wb_1110 hM) (by decide) hs, c_240n hX (wb_1111 hM) (by decide) hs, c_240n hX (wb_1112 hM) (by decide) hs, c_240n hX (wb_1113 hM) (by decide) hs, c_240n hX (wb_1114 hM) (by decide) hs, e0, e1, e2, e3, e4, e5, e6, e7, e8, zb_t, zb_f, Bool.false_eq_true]
  cases e9 : zhw t n k [114, 101, 97, 99, 104]
  rotate_left
  · simp (disch := omega) only [q_264_0, b_264_0, q_264_13, b_264_13, q_264_26, b_264_26, q_264_51, b_264_51, q_264_64, b_264_64, q_264_77, b_264_77, q_264_90, b_264_90, q_264_104, b_264_104, q_264_118, b_264_118, q_264_132, b_264_132, ↓w_iconst, ↓w_bipush, ↓w_aload_n_0, ↓w_getfield, ↓w_goto, ↓w_ifCond_eq, ↓w_ireturn0, ↓w_invokevirtual_1, stw_0, stw_i, stw_l, stw_r, ofK0, ofK1, ofK2, lst1, lst2, lkill, kont_none, kont_some, Int.reduceToNat, List.length_cons, List.length_nil, Nat.reduceAdd, Nat.reduceLeDiff, Nat.zero_le, true_and, and_true, if_true, if_false, ne_eq, Int.reduceEq, Int.reduceNeg, not_false_eq_true, not_true_eq_false, ↓reduceIte, Int.reduceLT, Int.reduceLE, and_self, or_true, true_or, or_false, false_or, false_and, and_false, ah_t_w, ah_m_w, ah_n_w, lst1_0, List.tail_cons, w32_i, zbd, lst2_0, mt_1036a hM, mt_1106a hM, mt_1106b hM, mf_99 hM, mt_1107a hM, mt_1107b hM, mf_100 hM, mt_1108a hM, mt_1108b hM, mf_101 hM, mt_1109a hM, mt_1109b hM, mf_102 hM, mt_1110a hM, mt_1110b hM, mf_103 hM, mt_1111a hM, mt_1111b hM, mf_104 hM, mt_1112a hM, mt_1112b hM, mf_105 hM, mt_1113a hM, mt_1113b hM, mf_106 hM, mt_1114a hM, mt_1114b hM, mf_107 hM, mt_1115a hM, mt_1115b hM, mf_108 hM, c_240n hX (wb_1106 hM) (by decide) hs, c_240n hX (wb_1107 hM) (by decide) hs, c_240n hX (wb_1108 hM) (by decide) hs, c_240n hX (wb_1109 hM) (by decide) hs, c_240n hX (wb_1110 hM) (by decide) hs, c_240n hX (wb_1111 hM) (by decide) hs, c_240n hX (wb_1112 hM) (by decide) hs, c_240n hX (wb_1113 hM) (by decide) hs, c_240n hX (wb_1114 hM) (by decide) hs, c_240n hX (wb_1115 hM) (by decide) hs, e0, e1, e2, e3, e4, e5, e6, e7, e8, e9, zb_t, zb_f, Bool.false_eq_true]
  cases e10 : zhw t n k [109, 111, 118, 101, 115]
  rotate_left
  · simp (disch := omega) only [q_264_0, b_264_0, q_264_13, b_264_13, q_264_26, b_264_26, q_264_51, b_264_51, q_264_64, b_264_64, q_264_77, b_264_77, q_264_90, b_264_90, q_264_104, b_264_104, q_264_118, b_264_118, q_264_132, b_264_132, q_264_146, b_264_146, ↓w_iconst, ↓w_bipush, ↓w_aload_n_0, ↓w_getfield, ↓w_goto, ↓w_ifCond_eq, ↓w_ireturn0, ↓w_invokevirtual_1, stw_0, stw_i, stw_l, stw_r, ofK0, ofK1, ofK2, lst1, lst2, lkill, kont_none, kont_some, Int.reduceToNat, List.length_cons, List.length_nil, Nat.reduceAdd, Nat.reduceLeDiff, Nat.zero_le, true_and, and_true, if_true, if_false, ne_eq, Int.reduceEq, Int.reduceNeg, not_false_eq_true, not_true_eq_false, ↓reduceIte, Int.reduceLT, Int.reduceLE, and_self, or_true, true_or, or_false, false_or, false_and, and_false, ah_t_w, ah_m_w, ah_n_w, lst1_0, List.tail_cons, w32_i, zbd, lst2_0, mt_1036a hM, mt_1106a hM, mt_1106b hM, mf_99 hM, mt_1107a hM, mt_1107b hM, mf_100 hM, mt_1108a hM, mt_1108b hM, mf_101 hM, mt_1109a hM, mt_1109b hM, mf_102 hM, mt_1110a hM, mt_1110b hM, mf_103 hM, mt_1111a hM, mt_1111b hM, mf_104 hM, mt_1112a hM, mt_1112b hM, mf_105 hM, mt_1113a hM, mt_1113b hM, mf_106 hM, mt_1114a hM, mt_1114b hM, mf_107 hM, mt_1115a hM, mt_1115b hM, mf_108 hM, mt_1116a hM, mt_1116b hM, mf_109 hM, c_240n hX (wb_1106 hM) (by decide) hs, c_240n hX (wb_1107 hM) (by decide) hs, c_240n hX (wb_1108 hM) (by decide) hs, c_240n hX (wb_1109 hM) (by decide) hs, c_240n hX (wb_1110 hM) (by decide) hs, c_240n hX (wb_1111 hM) (by decide) hs, c_240n hX (wb_1112 hM) (by decide) hs, c_240n hX (wb_1113 hM) (by decide) hs, c_240n hX (wb_1114 hM) (by decide) hs, c_240n hX (wb_1115 hM) (by decide) hs, c_240n hX (wb_1116 hM) (by decide) hs, e0, e1, e2, e3, e4, e5, e6, e7, e8, e9, e10, zb_t, zb_f, Bool.false_eq_true]
  simp (disch := omega) only [q_264_0, b_264_0, q_264_13, b_264_13, q_264_26, b_264_26, q_264_51, b_264_51, q_264_64, b_264_64, q_264_77, b_264_77, q_264_90, b_264_90, q_264_104, b_264_104, q_264_118, b_264_118, q_264_132, b_264_132, q_264_146, b_264_146, q_264_160, b_264_160, ↓w_iconst, ↓w_bipush, ↓w_aload_n_0, ↓w_getfield, ↓w_goto, ↓w_ifCond_eq, ↓w_ireturn0, ↓w_invokevirtual_1, stw_0, stw_i, stw_l, stw_r, ofK0, ofK1, ofK2, lst1, lst2, lkill, kont_none, kont_some, Int.reduceToNat, List.length_cons, List.length_nil, Nat.reduceAdd, Nat.reduceLeDiff, Nat.zero_le, true_and, and_true, if_true, if_false, ne_eq, Int.reduceEq, Int.reduceNeg, not_false_eq_true, not_true_eq_false, ↓reduceIte, Int.reduceLT, Int.reduceLE, and_self, or_true, true_or, or_false, false_or, false_and, and_false, ah_t_w, ah_m_w, ah_n_w, lst1_0, List.tail_cons, w32_i, zbd, lst2_0, mt_1036a hM, mt_1106a hM, mt_1106b hM, mf_99 hM, mt_1107a hM, mt_1107b hM, mf_100 hM, mt_1108a hM, mt_1108b hM, mf_101 hM, mt_1109a hM, mt_1109b hM, mf_102 hM, mt_1110a hM, mt_1110b hM, mf_103 hM, mt_1111a hM, mt_1111b hM, mf_104 hM, mt_1112a hM, mt_1112b hM, mf_105 hM, mt_1113a hM, mt_1113b hM, mf_106 hM, mt_1114a hM, mt_1114b hM, mf_107 hM, mt_1115a hM, mt_1115b hM, mf_108 hM, mt_1116a hM, mt_1116b hM, mf_109 hM, c_240n hX (wb_1106 hM) (by decide) hs, c_240n hX (wb_1107 hM) (by decide) hs, c_240n hX (wb_1108 hM) (by decide) hs, c_240n hX (wb_1109 hM) (by decide) hs, c_240n hX (wb_1110 hM) (by decide) hs, c_240n hX (wb_1111 hM) (by decide) hs, c_240n hX (wb_1112 hM) (by decide) hs, c_240n hX (wb_1113 hM) (by decide) hs, c_240n hX (wb_1114 hM) (by decide) hs, c_240n hX (wb_1115 hM) (by decide) hs, c_240n hX (wb_1116 hM) (by decide) hs, e0, e1, e2, e3, e4, e5, e6, e7, e8, e9, e10, zb_t, zb_f, Bool.false_eq_true]
theorem c_265 (hQ : MQs hm t n k w0 w cs o h) : wpC (d + 1) 265 [.inr (.inr 1036), .inl v] h Q ↔ Q (.inl (some (.inl (zb (zal hm v))))) h := by
  have hM := hQ.1.1
  have e59 := hQ.2.2.2.2.2.2.2
  unfold zal
  apply CT_iff; apply CT_of; rw [wpC_B]; refine ⟨⟨Nat.zero_lt_succ _, Nat.le_of_ble_eq_true rfl⟩, ?_⟩; simp only [lent]
  cases hm
  · rw [if_neg (by decide)]
    by_cases g : 2 < v
    · have g2 : decide (2 < v) = true := decide_eq_true g
      simp (disch := omega) only [q_265_0, b_265_0, q_265_16, b_265_16, q_265_20, b_265_20, q_265_29, b_265_29, q_265_30, b_265_30, ↓w_iconst, ↓w_aload_n_0, ↓w_iload_n_1, ↓w_getfield, ↓w_nop, ↓w_goto, ↓w_ifCond_eq, ↓w_if_icmp_ge, ↓w_if_icmp_le, ↓w_ireturn1, stw_0, stw_i, stw_l, stw_r, ofK0, ofK1, ofK2, lst1, lst2, lkill, kont_none, kont_some, Int.reduceToNat, List.length_cons, List.length_nil, Nat.reduceAdd, Nat.reduceLeDiff, Nat.zero_le, true_and, and_true, if_true, if_false, ne_eq, Int.reduceEq, Int.reduceNeg, not_false_eq_true, not_true_eq_false, ↓reduceIte, Int.reduceLT, Int.reduceLE, and_self, or_true, true_or, or_false, false_or, false_and, and_false, ah_t_w, ah_m_w, ah_n_w, lst1_0, List.tail_cons, w32_i, zbd, lst2_0, mt_1036a hM, e59, g, decide_true, decide_false, zb_t, zb_f]
    · have g2 : decide (2 < v) = false := decide_eq_false g
      simp (disch := omega) only [q_265_0, b_265_0, q_265_16, b_265_16, q_265_20, b_265_20, q_265_29, b_265_29, q_265_30, b_265_30, ↓w_iconst, ↓w_aload_n_0, ↓w_iload_n_1, ↓w_getfield, ↓w_nop, ↓w_goto, ↓w_ifCond_eq, ↓w_if_icmp_ge, ↓w_if_icmp_le, ↓w_ireturn1, stw_0, stw_i, stw_l, stw_r, ofK0, ofK1, ofK2, lst1, lst2, lkill, kont_none, kont_some, Int.reduceToNat, List.length_cons, List.length_nil, Nat.reduceAdd, Nat.reduceLeDiff, Nat.zero_le, true_and, and_true, if_true, if_false, ne_eq, Int.reduceEq, Int.reduceNeg, not_false_eq_true, not_true_eq_false, ↓reduceIte, Int.reduceLT, Int.reduceLE, and_self, or_true, true_or, or_false, false_or, false_and, and_false, ah_t_w, ah_m_w, ah_n_w, lst1_0, List.tail_cons, w32_i, zbd, lst2_0, mt_1036a hM, e59, zb_f, g, decide_true, decide_false, zb_t, zb_f]
  · rw [if_pos rfl]
    by_cases g : v < 4
    · have g2 : decide (v < 4) = true := decide_eq_true g
      simp (disch := omega) only [q_265_0, b_265_0, q_265_16, b_265_16, q_265_20, b_265_20, q_265_29, b_265_29, q_265_30, b_265_30, ↓w_iconst, ↓w_aload_n_0, ↓w_iload_n_1, ↓w_getfield, ↓w_nop, ↓w_goto, ↓w_ifCond_eq, ↓w_if_icmp_ge, ↓w_if_icmp_le, ↓w_ireturn1, stw_0, stw_i, stw_l, stw_r, ofK0, ofK1, ofK2, lst1, lst2, lkill, kont_none, kont_some, Int.reduceToNat, List.length_cons, List.length_nil, Nat.reduceAdd, Nat.reduceLeDiff, Nat.zero_le, true_and, and_true, if_true, if_false, ne_eq, Int.reduceEq, Int.reduceNeg, not_false_eq_true, not_true_eq_false, ↓reduceIte, Int.reduceLT, Int.reduceLE, and_self, or_true, true_or, or_false, false_or, false_and, and_false, ah_t_w, ah_m_w, ah_n_w, lst1_0, List.tail_cons, w32_i, zbd, lst2_0, mt_1036a hM, e59, zb_t, g, decide_true, decide_false, zb_t, zb_f]
    · have g2 : decide (v < 4) = false := decide_eq_false g
      simp (disch := omega) only [q_265_0, b_265_0, q_265_16, b_265_16, q_265_20, b_265_20, q_265_29, b_265_29, q_265_30, b_265_30, ↓w_iconst, ↓w_aload_n_0, ↓w_iload_n_1, ↓w_getfield, ↓w_nop, ↓w_goto, ↓w_ifCond_eq, ↓w_if_icmp_ge, ↓w_if_icmp_le, ↓w_ireturn1, stw_0, stw_i, stw_l, stw_r, ofK0, ofK1, ofK2, lst1, lst2, lkill, kont_none, kont_some, Int.reduceToNat, List.length_cons, List.length_nil, Nat.reduceAdd, Nat.reduceLeDiff, Nat.zero_le, true_and, and_true, if_true, if_false, ne_eq, Int.reduceEq, Int.reduceNeg, not_false_eq_true, not_true_eq_false, ↓reduceIte, Int.reduceLT, Int.reduceLE, and_self, or_true, true_or, or_false, false_or, false_and, and_false, ah_t_w, ah_m_w, ah_n_w, lst1_0, List.tail_cons, w32_i, zbd, lst2_0, mt_1036a hM, e59, g, decide_true, decide_false, zb_t, zb_f]
theorem c_263 (hQ : MQs hm t n k w0 w cs o h) (hs : zsk t n k = k) : wpC (d + 4) 263 [.inr (.inr 1036), .inl a, .inl b] h Q ↔ Q (.inl (some (.inl (if (a ≤ zqw hm t n k ∧ zqw hm t n k < b) ∧ zal hm (zqw hm t n k) = true then zqw hm t n k else -1)))) h := by
  have hM := hQ.1.1
  apply CT_iff; apply CT_of; rw [wpC_B]; refine ⟨⟨Nat.zero_lt_succ _, Nat.le_of_ble_eq_true rfl⟩, ?_⟩; simp only [lent]
  generalize ev : zqw hm t n k = v
  have c64 : ∀ {Q}, wpC (d + 3) 264 [.inr (.inr 1036)] h Q ↔ Q (.inl (some (.inl v))) h := by intro Q; rw [c_264 hQ hs, ev]
  by_cases g1 : v < a
  · rw [if_neg (by omega)]
    simp (disch := omega) only [q_263_0, b_263_0, q_263_27, b_263_27, q_263_28, b_263_28, ↓w_iconst, ↓w_aload_n_0, ↓w_iload_n_1, ↓w_iload_n_2, ↓w_iload_n_3, ↓w_istore_n_3, ↓w_nop, ↓w_goto, ↓w_ifCond_eq, ↓w_if_icmp_lt, ↓w_if_icmp_ge, ↓w_ireturn0, ↓w_invokevirtual_0, ↓w_invokevirtual_1, stw_0, stw_i, stw_l, stw_r, ofK0, ofK1, ofK2, lst1, lst2, lkill, kont_none, kont_some, Int.reduceToNat, List.length_cons, List.length_nil, Nat.reduceAdd, Nat.reduceLeDiff, Nat.zero_le, true_and, and_true, if_true, if_false, ne_eq, Int.reduceEq, Int.reduceNeg, not_false_eq_true, not_true_eq_false, ↓reduceIte, Int.reduceLT, Int.reduceLE, and_self, or_true, true_or, or_false, false_or, false_and, and_false, ah_t_w, ah_m_w, ah_n_w, lst1_0, List.tail_cons, w32_i, zbd, lst2_0, mt_1036a hM, c64, g1]
  · by_cases g2 : v < b
    · cases g3 : zal hm v
      · rw [if_neg (by simp)]
        simp (disch := omega) only [q_263_0, b_263_0, q_263_27, b_263_27, q_263_28, b_263_28, ↓w_iconst, ↓w_aload_n_0, ↓w_iload_n_1, ↓w_iload_n_2, ↓w_iload_n_3, ↓w_istore_n_3, ↓w_nop, ↓w_goto, ↓w_ifCond_eq, ↓w_if_icmp_lt, ↓w_if_icmp_ge, ↓w_ireturn0, ↓w_invokevirtual_0, ↓w_invokevirtual_1, stw_0, stw_i, stw_l, stw_r, ofK0, ofK1, ofK2, lst1, lst2, lkill, kont_none, kont_some, Int.reduceToNat, List.length_cons, List.length_nil, Nat.reduceAdd, Nat.reduceLeDiff, Nat.zero_le, true_and, and_true, if_true, if_false, ne_eq, Int.reduceEq, Int.reduceNeg, not_false_eq_true, not_true_eq_false, ↓reduceIte, Int.reduceLT, Int.reduceLE, and_self, or_true, true_or, or_false, false_or, false_and, and_false, ah_t_w, ah_m_w, ah_n_w, lst1_0, List.tail_cons, w32_i, zbd, lst2_0, mt_1036a hM, c64, g1, g2, c_265 hQ, g3, zb_f]
      · rw [if_pos ⟨⟨by omega, g2⟩, rfl⟩]
        simp (disch := omega) only [q_263_0, b_263_0, q_263_27, b_263_27, q_263_28, b_263_28, ↓w_iconst, ↓w_aload_n_0, ↓w_iload_n_1, ↓w_iload_n_2, ↓w_iload_n_3, ↓w_istore_n_3, ↓w_nop, ↓w_goto, ↓w_ifCond_eq, ↓w_if_icmp_lt, ↓w_if_icmp_ge, ↓w_ireturn0, ↓w_invokevirtual_0, ↓w_invokevirtual_1, stw_0, stw_i, stw_l, stw_r, ofK0, ofK1, ofK2, lst1, lst2, lkill, kont_none, kont_some, Int.reduceToNat, List.length_cons, List.length_nil, Nat.reduceAdd, Nat.reduceLeDiff, Nat.zero_le, true_and, and_true, if_true, if_false, ne_eq, Int.reduceEq, Int.reduceNeg, not_false_eq_true, not_true_eq_false, ↓reduceIte, Int.reduceLT, Int.reduceLE, and_self, or_true, true_or, or_false, false_or, false_and, and_false, ah_t_w, ah_m_w, ah_n_w, lst1_0, List.tail_cons, w32_i, zbd, lst2_0, mt_1036a hM, c64, g1, g2, c_265 hQ, g3, zb_t]
    · rw [if_neg (by omega)]
      simp (disch := omega) only [q_263_0, b_263_0, q_263_27, b_263_27, q_263_28, b_263_28, ↓w_iconst, ↓w_aload_n_0, ↓w_iload_n_1, ↓w_iload_n_2, ↓w_iload_n_3, ↓w_istore_n_3, ↓w_nop, ↓w_goto, ↓w_ifCond_eq, ↓w_if_icmp_lt, ↓w_if_icmp_ge, ↓w_ireturn0, ↓w_invokevirtual_0, ↓w_invokevirtual_1, stw_0, stw_i, stw_l, stw_r, ofK0, ofK1, ofK2, lst1, lst2, lkill, kont_none, kont_some, Int.reduceToNat, List.length_cons, List.length_nil, Nat.reduceAdd, Nat.reduceLeDiff, Nat.zero_le, true_and, and_true, if_true, if_false, ne_eq, Int.reduceEq, Int.reduceNeg, not_false_eq_true, not_true_eq_false, ↓reduceIte, Int.reduceLT, Int.reduceLE, and_self, or_true, true_or, or_false, false_or, false_and, and_false, ah_t_w, ah_m_w, ah_n_w, lst1_0, List.tail_cons, w32_i, zbd, lst2_0, mt_1036a hM, c64, g1, g2]
/-- something opens -/
theorem c_266 {v p : Int} (hQ : MQs hm t n k w0 w cs o h) (hl : (w.length : Int) + w0.length ≤ 1690) (ho : 0 ≤ o ∧ o ≤ 6) (hq0 : o = 6 → Q (.inl none) (ah_w (ah_w h 1036 5 4) 1036 6 p)) (hq1 : ∀ h', o ≠ 6 → MQs hm t n k w0 (v :: w) cs (o + 1) h' → Off WQ h h' → Q (.inl none) h') : wpC (d + 2) 266 [.inr (.inr 1036), .inl v, .inl p] h Q := by
  obtain ⟨a0, a1, a2, a3, a4, a5, a6, a7⟩ := hQ
  have hM := a0.1
  have h5 := a0.2.2.2.2.1
  have hl2 : ((w ++ w0).length : Int) = w.length + w0.length := by simp
  rw [wpC_B]; refine ⟨⟨Nat.zero_lt_succ _, Nat.le_of_ble_eq_true rfl⟩, ?_⟩; simp only [lent]
  by_cases g : o = 6
  · simp (disch := omega) only [q_266_0, b_266_0, q_266_8, b_266_8, ↓w_iconst, ↓w_bipush, ↓w_aload_n_0, ↓w_iload_n_2, ↓w_getfield, ↓w_ifCond_eq, ↓w_if_icmp_ne, ↓w_return, ↓w_invokevirtual_2, stw_0, stw_i, stw_l, stw_r, ofK0, ofK1, ofK2, lst1, lst2, lkill, kont_none, kont_some, Int.reduceToNat, List.length_cons, List.length_nil, Nat.reduceAdd, Nat.reduceLeDiff, Nat.zero_le, true_and, and_true, if_true, if_false, ne_eq, Int.reduceEq, Int.reduceNeg, not_false_eq_true, not_true_eq_false, ↓reduceIte, Int.reduceLT, Int.reduceLE, and_self, or_true, true_or, or_false, false_or, false_and, and_false, ah_t_w, ah_m_w, ah_n_w, lst1_0, List.tail_cons, w32_i, zbd, lst2_0, mt_1036a hM, h5, a6, g, c_243 hM h5]
    exact hq0 g
  · simp (disch := omega) only [q_266_0, b_266_0, q_266_8, b_266_8, q_266_24, b_266_24, ↓w_iconst, ↓w_bipush, ↓w_aload_n_0, ↓w_iload_n_1, ↓w_iload_n_2, ↓w_dup_i, ↓w_dup_a, ↓w_iadd, ↓w_getfield, ↓w_putfield_0, ↓w_iastore, ↓w_ifCond_eq, ↓w_if_icmp_ne, ↓w_return, ↓w_invokevirtual_2, stw_0, stw_i, stw_l, stw_r, ofK0, ofK1, ofK2, lst1, lst2, lkill, kont_none, kont_some, Int.reduceToNat, List.length_cons, List.length_nil, Nat.reduceAdd, Nat.reduceLeDiff, Nat.zero_le, true_and, and_true, if_true, if_false, ne_eq, Int.reduceEq, Int.reduceNeg, not_false_eq_true, not_true_eq_false, ↓reduceIte, Int.reduceLT, Int.reduceLE, and_self, or_true, true_or, or_false, false_or, false_and, and_false, ah_t_w, ah_m_w, ah_n_w, lst1_0, List.tail_cons, w32_i, zbd, lst2_0, mt_1036a hM, mt_1118a hM, mt_1118b hM, mf_112 hM, h5, a2, a6, g]
    refine hq1 _ g ⟨LX_w (LX_w (LX_w a0 (by omega)) (by omega)) (by omega), ⟨?_, ?_⟩, ?_, ?_, Cods_w (Cods_w (Cods_w a4 (by omega)) (by omega)) (by omega), ?_, ?_, ?_⟩ (Off_w (Off_w (Off_w Off_rfl (by unfold WQ; omega)) (by unfold WQ; omega)) (by unfold WQ; omega))
    · rw [ah_m_w, if_neg (by omega), ah_m_w, if_pos ⟨rfl, rfl⟩]
    · exact Stk_w (st := w ++ w0) (Stk_w (Stk_w a1 (by omega)) (by omega)) (by omega)
    · rw [ah_m_w, if_pos ⟨rfl, rfl⟩]; simp
    · rw [ah_m_w, if_neg (by omega), ah_m_w, if_neg (by omega), ah_m_w, if_neg (by omega)]; exact a3
    · rw [ah_m_w, if_neg (by omega), ah_m_w, if_neg (by omega), ah_m_w, if_neg (by omega)]; exact a5
    · rw [ah_m_w, if_neg (by omega), ah_m_w, if_neg (by omega), ah_m_w, if_pos ⟨rfl, rfl⟩]
    · rw [ah_m_w, if_neg (by omega), ah_m_w, if_neg (by omega), ah_m_w, if_neg (by omega)]; exact a7
theorem b_266 {kk pp v p : Int} (hB : BX kk pp h) : wpC (d + 1) 266 [.inr (.inr 1036), .inl v, .inl p] h Q ↔ Q (.inl none) h := by
  have e := hB.2.1; have hk := hB.2.2.2
  apply CT_iff; apply CT_of; rw [wpC_B]; refine ⟨⟨Nat.zero_lt_succ _, Nat.le_of_ble_eq_true rfl⟩, ?_⟩; simp only [lent]
  simp (disch := omega) only [q_266_0, b_266_0, ↓w_aload_n_0, ↓w_getfield, ↓w_ifCond_eq, ↓w_return, stw_0, stw_i, stw_l, stw_r, ofK0, ofK1, ofK2, lst1, lst2, lkill, kont_none, kont_some, Int.reduceToNat, List.length_cons, List.length_nil, Nat.reduceAdd, Nat.reduceLeDiff, Nat.zero_le, true_and, and_true, if_true, if_false, ne_eq, Int.reduceEq, Int.reduceNeg, not_false_eq_true, not_true_eq_false, ↓reduceIte, Int.reduceLT, Int.reduceLE, and_self, or_true, true_or, or_false, false_or, false_and, and_false, ah_t_w, ah_m_w, ah_n_w, lst1_0, List.tail_cons, w32_i, zbd, lst2_0, mt_1036a hB.1, e, hk]

/-- a part's word is taken -/
theorem c_267 (hX : LX t n k h) (hs : zsk t n k = k) (hv : zqw hm t n k = v) (h0 : 0 ≤ v) (hq : ∀ h', LX t n (k + zln v) h' → Off Wlx h h' → Q (.inl none) h') : wpC (d + 5) 267 [.inr (.inr 1036), .inl v] h Q := by
  have hM := hX.1
  rw [wpC_B]; refine ⟨⟨Nat.zero_lt_succ _, Nat.le_of_ble_eq_true rfl⟩, ?_⟩; simp only [lent]
  unfold zqw at hv
  cases e0 : zhw t n k [116, 97, 107, 101, 110]
  rotate_left
  · simp only [e0, if_true, if_false, Bool.false_eq_true] at hv
    subst hv
    simp (disch := omega) only [q_267_0, b_267_0, q_267_60, b_267_60, ↓w_aload_n_0, ↓w_iload_n_1, ↓w_getfield, ↓w_goto, ↓w_tableswitch, ↓w_invokevirtual_1, stw_0, stw_i, stw_l, stw_r, ofK0, ofK1, ofK2, lst1, lst2, lkill, kont_none, kont_some, Int.reduceToNat, List.length_cons, List.length_nil, Nat.reduceAdd, Nat.reduceLeDiff, Nat.zero_le, true_and, and_true, if_true, if_false, ne_eq, Int.reduceEq, Int.reduceNeg, not_false_eq_true, not_true_eq_false, ↓reduceIte, Int.reduceLT, Int.reduceLE, and_self, or_true, true_or, or_false, false_or, false_and, and_false, ah_t_w, ah_m_w, ah_n_w, lst1_0, List.tail_cons, w32_i, zbd, lst2_0, asc, Option.getD_some, Option.getD_none, mt_1036a hM, mt_1106a hM, mt_1106b hM, mf_99 hM]
    refine c_238 hX (wb_1106 hM) (by decide) (by decide) (fun h' g _ _ => by rw [hs, e0] at g; cases g) (fun h' g hX' hO => ?_)
    rw [hs] at hX'
    simp (disch := omega) only [b_267_60, q_267_189, b_267_189, ↓w_aload_n_0, ↓w_getfield, ↓w_goto, ↓w_return, ↓w_invokevirtual_1, stw_0, stw_i, stw_l, stw_r, ofK0, ofK1, ofK2, lst1, lst2, lkill, kont_none, kont_some, Int.reduceToNat, List.length_cons, List.length_nil, Nat.reduceAdd, Nat.reduceLeDiff, Nat.zero_le, true_and, and_true, if_true, if_false, ne_eq, Int.reduceEq, Int.reduceNeg, not_false_eq_true, not_true_eq_false, ↓reduceIte, Int.reduceLT, Int.reduceLE, and_self, or_true, true_or, or_false, false_or, false_and, and_false, ah_t_w, ah_m_w, ah_n_w, lst1_0, List.tail_cons, w32_i, zbd, lst2_0]
    exact hq h' hX' hO
  cases e1 : zhw t n k [99, 104, 101, 99, 107]
  rotate_left
  · simp only [e0, e1, if_true, if_false, Bool.false_eq_true] at hv
    subst hv
    simp (disch := omega) only [q_267_0, b_267_0, q_267_71, b_267_71, ↓w_aload_n_0, ↓w_iload_n_1, ↓w_getfield, ↓w_goto, ↓w_tableswitch, ↓w_invokevirtual_1, stw_0, stw_i, stw_l, stw_r, ofK0, ofK1, ofK2, lst1, lst2, lkill, kont_none, kont_some, Int.reduceToNat, List.length_cons, List.length_nil, Nat.reduceAdd, Nat.reduceLeDiff, Nat.zero_le, true_and, and_true, if_true, if_false, ne_eq, Int.reduceEq, Int.reduceNeg, not_false_eq_true, not_true_eq_false, ↓reduceIte, Int.reduceLT, Int.reduceLE, and_self, or_true, true_or, or_false, false_or, false_and, and_false, ah_t_w, ah_m_w, ah_n_w, lst1_0, List.tail_cons, w32_i, zbd, lst2_0, asc, Option.getD_some, Option.getD_none, mt_1036a hM, mt_1107a hM, mt_1107b hM, mf_100 hM]
    refine c_238 hX (wb_1107 hM) (by decide) (by decide) (fun h' g _ _ => by rw [hs, e1] at g; cases g) (fun h' g hX' hO => ?_)
    rw [hs] at hX'
    simp (disch := omega) only [b_267_71, q_267_189, b_267_189, ↓w_aload_n_0, ↓w_getfield, ↓w_goto, ↓w_return, ↓w_invokevirtual_1, stw_0, stw_i, stw_l, stw_r, ofK0, ofK1, ofK2, lst1, lst2, lkill, kont_none, kont_some, Int.reduceToNat, List.length_cons, List.length_nil, Nat.reduceAdd, Nat.reduceLeDiff, Nat.zero_le, true_and, and_true, if_true, if_false, ne_eq, Int.reduceEq, Int.reduceNeg, not_false_eq_true, not_true_eq_false, ↓reduceIte, Int.reduceLT, Int.reduceLE, and_self, or_true, true_or, or_false, false_or, false_and, and_false, ah_t_w, ah_m_w, ah_n_w, lst1_0, List.tail_cons, w32_i, zbd, lst2_0]
    exact hq h' hX' hO
  cases e2 : zhw t n k [111, 102, 102]
  rotate_left
  · simp only [e0, e1, e2, if_true, if_false, Bool.false_eq_true] at hv
    cases hm
    · simp only [Bool.false_eq_true, if_false] at hv
      subst hv
      simp (disch := omega) only [q_267_0, b_267_0, q_267_181, b_267_181, ↓w_aload_n_0, ↓w_iload_n_1, ↓w_getfield, ↓w_nop, ↓w_tableswitch, ↓w_invokevirtual_1, stw_0, stw_i, stw_l, stw_r, ofK0, ofK1, ofK2, lst1, lst2, lkill, kont_none, kont_some, Int.reduceToNat, List.length_cons, List.length_nil, Nat.reduceAdd, Nat.reduceLeDiff, Nat.zero_le, true_and, and_true, if_true, if_false, ne_eq, Int.reduceEq, Int.reduceNeg, not_false_eq_true, not_true_eq_false, ↓reduceIte, Int.reduceLT, Int.reduceLE, and_self, or_true, true_or, or_false, false_or, false_and, and_false, ah_t_w, ah_m_w, ah_n_w, lst1_0, List.tail_cons, w32_i, zbd, lst2_0, asc, Option.getD_some, Option.getD_none, mt_1036a hM, mt_1108a hM, mt_1108b hM, mf_101 hM]
      refine c_238 hX (wb_1108 hM) (by decide) (by decide) (fun h' g _ _ => by rw [hs, e2] at g; cases g) (fun h' g hX' hO => ?_)
      rw [hs] at hX'
      simp (disch := omega) only [b_267_181, q_267_189, b_267_189, ↓w_aload_n_0, ↓w_getfield, ↓w_nop, ↓w_return, ↓w_invokevirtual_1, stw_0, stw_i, stw_l, stw_r, ofK0, ofK1, ofK2, lst1, lst2, lkill, kont_none, kont_some, Int.reduceToNat, List.length_cons, List.length_nil, Nat.reduceAdd, Nat.reduceLeDiff, Nat.zero_le, true_and, and_true, if_true, if_false, ne_eq, Int.reduceEq, Int.reduceNeg, not_false_eq_true, not_true_eq_false, ↓reduceIte, Int.reduceLT, Int.reduceLE, and_self, or_true, true_or, or_false, false_or, false_and, and_false, ah_t_w, ah_m_w, ah_n_w, lst1_0, List.tail_cons, w32_i, zbd, lst2_0]
      exact hq h' hX' hO
    · simp only [if_true] at hv
      subst hv
      simp (disch := omega) only [q_267_0, b_267_0, q_267_82, b_267_82, ↓w_aload_n_0, ↓w_iload_n_1, ↓w_getfield, ↓w_goto, ↓w_tableswitch, ↓w_invokevirtual_1, stw_0, stw_i, stw_l, stw_r, ofK0, ofK1, ofK2, lst1, lst2, lkill, kont_none, kont_some, Int.reduceToNat, List.length_cons, List.length_nil, Nat.reduceAdd, Nat.reduceLeDiff, Nat.zero_le, true_and, and_true, if_true, if_false, ne_eq, Int.reduceEq, Int.reduceNeg, not_false_eq_true, not_true_eq_false, ↓reduceIte, Int.reduceLT, Int.reduceLE, and_self, or_true, true_or, or_false, false_or, false_and, and_false, ah_t_w, ah_m_w, ah_n_w, lst1_0, List.tail_cons, w32_i, zbd, lst2_0, asc, Option.getD_some, Option.getD_none, mt_1036a hM, mt_1108a hM, mt_1108b hM, mf_101 hM]
      refine c_238 hX (wb_1108 hM) (by decide) (by decide) (fun h' g _ _ => by rw [hs, e2] at g; cases g) (fun h' g hX' hO => ?_)
      rw [hs] at hX'
      simp (disch := omega) only [b_267_82, q_267_189, b_267_189, ↓w_aload_n_0, ↓w_getfield, ↓w_goto, ↓w_return, ↓w_invokevirtual_1, stw_0, stw_i, stw_l, stw_r, ofK0, ofK1, ofK2, lst1, lst2, lkill, kont_none, kont_some, Int.reduceToNat, List.length_cons, List.length_nil, Nat.reduceAdd, Nat.reduceLeDiff, Nat.zero_le, true_and, and_true, if_true, if_false, ne_eq, Int.reduceEq, Int.reduceNeg, not_false_eq_true, not_true_eq_false, ↓reduceIte, Int.reduceLT, Int.reduceLE, and_self, or_true, true_or, or_false, false_or, false_and, and_false, ah_t_w, ah_m_w, ah_n_w, lst1_0, List.tail_cons, w32_i, zbd, lst2_0]
      exact hq h' hX' hO
  cases e3 : zhw t n k [100, 97, 121]
  rotate_left
  · simp only [e0, e1, e2, e3, if_true, if_false, Bool.false_eq_true] at hv
    subst hv
    simp (disch := omega) only [q_267_0, b_267_0, q_267_93, b_267_93, ↓w_aload_n_0, ↓w_iload_n_1, ↓w_getfield, ↓w_goto, ↓w_tableswitch, ↓w_invokevirtual_1, stw_0, stw_i, stw_l, stw_r, ofK0, ofK1, ofK2, lst1, lst2, lkill, kont_none, kont_some, Int.reduceToNat, List.length_cons, List.length_nil, Nat.reduceAdd, Nat.reduceLeDiff, Nat.zero_le, true_and, and_true, if_true, if_false, ne_eq, Int.reduceEq, Int.reduceNeg, not_false_eq_true, not_true_eq_false, ↓reduceIte, Int.reduceLT, Int.reduceLE, and_self, or_true, true_or, or_false, false_or, false_and, and_false, ah_t_w, ah_m_w, ah_n_w, lst1_0, List.tail_cons, w32_i, zbd, lst2_0, asc, Option.getD_some, Option.getD_none, mt_1036a hM, mt_1109a hM, mt_1109b hM, mf_102 hM]
    refine c_238 hX (wb_1109 hM) (by decide) (by decide) (fun h' g _ _ => by rw [hs, e3] at g; cases g) (fun h' g hX' hO => ?_)
    rw [hs] at hX'
    simp (disch := omega) only [b_267_93, q_267_189, b_267_189, ↓w_aload_n_0, ↓w_getfield, ↓w_goto, ↓w_return, ↓w_invokevirtual_1, stw_0, stw_i, stw_l, stw_r, ofK0, ofK1, ofK2, lst1, lst2, lkill, kont_none, kont_some, Int.reduceToNat, List.length_cons, List.length_nil, Nat.reduceAdd, Nat.reduceLeDiff, Nat.zero_le, true_and, and_true, if_true, if_false, ne_eq, Int.reduceEq, Int.reduceNeg, not_false_eq_true, not_true_eq_false, ↓reduceIte, Int.reduceLT, Int.reduceLE, and_self, or_true, true_or, or_false, false_or, false_and, and_false, ah_t_w, ah_m_w, ah_n_w, lst1_0, List.tail_cons, w32_i, zbd, lst2_0]
    exact hq h' hX' hO
  cases e4 : zhw t n k [110, 117, 109, 98, 101, 114]
  rotate_left
  · simp only [e0, e1, e2, e3, e4, if_true, if_false, Bool.false_eq_true] at hv
    subst hv
    simp (disch := omega) only [q_267_0, b_267_0, q_267_104, b_267_104, ↓w_aload_n_0, ↓w_iload_n_1, ↓w_getfield, ↓w_goto, ↓w_tableswitch, ↓w_invokevirtual_1, stw_0, stw_i, stw_l, stw_r, ofK0, ofK1, ofK2, lst1, lst2, lkill, kont_none, kont_some, Int.reduceToNat, List.length_cons, List.length_nil, Nat.reduceAdd, Nat.reduceLeDiff, Nat.zero_le, true_and, and_true, if_true, if_false, ne_eq, Int.reduceEq, Int.reduceNeg, not_false_eq_true, not_true_eq_false, ↓reduceIte, Int.reduceLT, Int.reduceLE, and_self, or_true, true_or, or_false, false_or, false_and, and_false, ah_t_w, ah_m_w, ah_n_w, lst1_0, List.tail_cons, w32_i, zbd, lst2_0, asc, Option.getD_some, Option.getD_none, mt_1036a hM, mt_1110a hM, mt_1110b hM, mf_103 hM]
    refine c_238 hX (wb_1110 hM) (by decide) (by decide) (fun h' g _ _ => by rw [hs, e4] at g; cases g) (fun h' g hX' hO => ?_)
    rw [hs] at hX'
    simp (disch := omega) only [b_267_104, q_267_189, b_267_189, ↓w_aload_n_0, ↓w_getfield, ↓w_goto, ↓w_return, ↓w_invokevirtual_1, stw_0, stw_i, stw_l, stw_r, ofK0, ofK1, ofK2, lst1, lst2, lkill, kont_none, kont_some, Int.reduceToNat, List.length_cons, List.length_nil, Nat.reduceAdd, Nat.reduceLeDiff, Nat.zero_le, true_and, and_true, if_true, if_false, ne_eq, Int.reduceEq, Int.reduceNeg, not_false_eq_true, not_true_eq_false, ↓reduceIte, Int.reduceLT, Int.reduceLE, and_self, or_true, true_or, or_false, false_or, false_and, and_false, ah_t_w, ah_m_w, ah_n_w, lst1_0, List.tail_cons, w32_i, zbd, lst2_0]
    exact hq h' hX' hO
  cases e5 : zhw t n k [99, 111, 108, 117, 109, 110]
  rotate_left
  · simp only [e0, e1, e2, e3, e4, e5, if_true, if_false, Bool.false_eq_true] at hv
    subst hv
    simp (disch := omega) only [q_267_0, b_267_0, q_267_115, b_267_115, ↓w_aload_n_0, ↓w_iload_n_1, ↓w_getfield, ↓w_goto, ↓w_tableswitch, ↓w_invokevirtual_1, stw_0, stw_i, stw_l, stw_r, ofK0, ofK1, ofK2, lst1, lst2, lkill, kont_none, kont_some, Int.reduceToNat, List.length_cons, List.length_nil, Nat.reduceAdd, Nat.reduceLeDiff, Nat.zero_le, true_and, and_true, if_true, if_false, ne_eq, Int.reduceEq, Int.reduceNeg, not_false_eq_true, not_true_eq_false, ↓reduceIte, Int.reduceLT, Int.reduceLE, and_self, or_true, true_or, or_false, false_or, false_and, and_false, ah_t_w, ah_m_w, ah_n_w, lst1_0, List.tail_cons, w32_i, zbd, lst2_0, asc, Option.getD_some, Option.getD_none, mt_1036a hM, mt_1111a hM, mt_1111b hM, mf_104 hM]
    refine c_238 hX (wb_1111 hM) (by decide) (by decide) (fun h' g _ _ => by rw [hs, e5] at g; cases g) (fun h' g hX' hO => ?_)
    rw [hs] at hX'
    simp (disch := omega) only [b_267_115, q_267_189, b_267_189, ↓w_aload_n_0, ↓w_getfield, ↓w_goto, ↓w_return, ↓w_invokevirtual_1, stw_0, stw_i, stw_l, stw_r, ofK0, ofK1, ofK2, lst1, lst2, lkill, kont_none, kont_some, Int.reduceToNat, List.length_cons, List.length_nil, Nat.reduceAdd, Nat.reduceLeDiff, Nat.zero_le, true_and, and_true, if_true, if_false, ne_eq, Int.reduceEq, Int.reduceNeg, not_false_eq_true, not_true_eq_false, ↓reduceIte, Int.reduceLT, Int.reduceLE, and_self, or_true, true_or, or_false, false_or, false_and, and_false, ah_t_w, ah_m_w, ah_n_w, lst1_0, List.tail_cons, w32_i, zbd, lst2_0]
    exact hq h' hX' hO
  cases e6 : zhw t n k [114, 111, 119]
  rotate_left
  · simp only [e0, e1, e2, e3, e4, e5, e6, if_true, if_false, Bool.false_eq_true] at hv
    subst hv
    simp (disch := omega) only [q_267_0, b_267_0, q_267_126, b_267_126, ↓w_aload_n_0, ↓w_iload_n_1, ↓w_getfield, ↓w_goto, ↓w_tableswitch, ↓w_invokevirtual_1, stw_0, stw_i, stw_l, stw_r, ofK0, ofK1, ofK2, lst1, lst2, lkill, kont_none, kont_some, Int.reduceToNat, List.length_cons, List.length_nil, Nat.reduceAdd, Nat.reduceLeDiff, Nat.zero_le, true_and, and_true, if_true, if_false, ne_eq, Int.reduceEq, Int.reduceNeg, not_false_eq_true, not_true_eq_false, ↓reduceIte, Int.reduceLT, Int.reduceLE, and_self, or_true, true_or, or_false, false_or, false_and, and_false, ah_t_w, ah_m_w, ah_n_w, lst1_0, List.tail_cons, w32_i, zbd, lst2_0, asc, Option.getD_some, Option.getD_none, mt_1036a hM, mt_1112a hM, mt_1112b hM, mf_105 hM]
    refine c_238 hX (wb_1112 hM) (by decide) (by decide) (fun h' g _ _ => by rw [hs, e6] at g; cases g) (fun h' g hX' hO => ?_)
    rw [hs] at hX'
    simp (disch := omega) only [b_267_126, q_267_189, b_267_189, ↓w_aload_n_0, ↓w_getfield, ↓w_goto, ↓w_return, ↓w_invokevirtual_1, stw_0, stw_i, stw_l, stw_r, ofK0, ofK1, ofK2, lst1, lst2, lkill, kont_none, kont_some, Int.reduceToNat, List.length_cons, List.length_nil, Nat.reduceAdd, Nat.reduceLeDiff, Nat.zero_le, true_and, and_true, if_true, if_false, ne_eq, Int.reduceEq, Int.reduceNeg, not_false_eq_true, not_true_eq_false, ↓reduceIte, Int.reduceLT, Int.reduceLE, and_self, or_true, true_or, or_false, false_or, false_and, and_false, ah_t_w, ah_m_w, ah_n_w, lst1_0, List.tail_cons, w32_i, zbd, lst2_0]
    exact hq h' hX' hO
  cases e7 : zhw t n k [115, 105, 100, 101]
  rotate_left
  · simp only [e0, e1, e2, e3, e4, e5, e6, e7, if_true, if_false, Bool.false_eq_true] at hv
    subst hv
    simp (disch := omega) only [q_267_0, b_267_0, q_267_137, b_267_137, ↓w_aload_n_0, ↓w_iload_n_1, ↓w_getfield, ↓w_goto, ↓w_tableswitch, ↓w_invokevirtual_1, stw_0, stw_i, stw_l, stw_r, ofK0, ofK1, ofK2, lst1, lst2, lkill, kont_none, kont_some, Int.reduceToNat, List.length_cons, List.length_nil, Nat.reduceAdd, Nat.reduceLeDiff, Nat.zero_le, true_and, and_true, if_true, if_false, ne_eq, Int.reduceEq, Int.reduceNeg, not_false_eq_true, not_true_eq_false, ↓reduceIte, Int.reduceLT, Int.reduceLE, and_self, or_true, true_or, or_false, false_or, false_and, and_false, ah_t_w, ah_m_w, ah_n_w, lst1_0, List.tail_cons, w32_i, zbd, lst2_0, asc, Option.getD_some, Option.getD_none, mt_1036a hM, mt_1113a hM, mt_1113b hM, mf_106 hM]
    refine c_238 hX (wb_1113 hM) (by decide) (by decide) (fun h' g _ _ => by rw [hs, e7] at g; cases g) (fun h' g hX' hO => ?_)
    rw [hs] at hX'
    simp (disch := omega) only [b_267_137, q_267_189, b_267_189, ↓w_aload_n_0, ↓w_getfield, ↓w_goto, ↓w_return, ↓w_invokevirtual_1, stw_0, stw_i, stw_l, stw_r, ofK0, ofK1, ofK2, lst1, lst2, lkill, kont_none, kont_some, Int.reduceToNat, List.length_cons, List.length_nil, Nat.reduceAdd, Nat.reduceLeDiff, Nat.zero_le, true_and, and_true, if_true, if_false, ne_eq, Int.reduceEq, Int.reduceNeg, not_false_eq_true, not_true_eq_false, ↓reduceIte, Int.reduceLT, Int.reduceLE, and_self, or_true, true_or, or_false, false_or, false_and, and_false, ah_t_w, ah_m_w, ah_n_w, lst1_0, List.tail_cons, w32_i, zbd, lst2_0]
    exact hq h' hX' hO
  cases e8 : zhw t n k [119, 111, 114, 116, 104]
  rotate_left
  · simp only [e0, e1, e2, e3, e4, e5, e6, e7, e8, if_true, if_false, Bool.false_eq_true] at hv
    subst hv
    simp (disch := omega) only [q_267_0, b_267_0, q_267_148, b_267_148, ↓w_aload_n_0, ↓w_iload_n_1, ↓w_getfield, ↓w_goto, ↓w_tableswitch, ↓w_invokevirtual_1, stw_0, stw_i, stw_l, stw_r, ofK0, ofK1, ofK2, lst1, lst2, lkill, kont_none, kont_some, Int.reduceToNat, List.length_cons, List.length_nil, Nat.reduceAdd, Nat.reduceLeDiff, Nat.zero_le, true_and, and_true, if_true, if_false, ne_eq, Int.reduceEq, Int.reduceNeg, not_false_eq_true, not_true_eq_false, ↓reduceIte, Int.reduceLT, Int.reduceLE, and_self, or_true, true_or, or_false, false_or, false_and, and_false, ah_t_w, ah_m_w, ah_n_w, lst1_0, List.tail_cons, w32_i, zbd, lst2_0, asc, Option.getD_some, Option.getD_none, mt_1036a hM, mt_1114a hM, mt_1114b hM, mf_107 hM]
    refine c_238 hX (wb_1114 hM) (by decide) (by decide) (fun h' g _ _ => by rw [hs, e8] at g; cases g) (fun h' g hX' hO => ?_)
    rw [hs] at hX'
    simp (disch := omega) only [b_267_148, q_267_189, b_267_189, ↓w_aload_n_0, ↓w_getfield, ↓w_goto, ↓w_return, ↓w_invokevirtual_1, stw_0, stw_i, stw_l, stw_r, ofK0, ofK1, ofK2, lst1, lst2, lkill, kont_none, kont_some, Int.reduceToNat, List.length_cons, List.length_nil, Nat.reduceAdd, Nat.reduceLeDiff, Nat.zero_le, true_and, and_true, if_true, if_false, ne_eq, Int.reduceEq, Int.reduceNeg, not_false_eq_true, not_true_eq_false, ↓reduceIte, Int.reduceLT, Int.reduceLE, and_self, or_true, true_or, or_false, false_or, false_and, and_false, ah_t_w, ah_m_w, ah_n_w, lst1_0, List.tail_cons, w32_i, zbd, lst2_0]
    exact hq h' hX' hO
  cases e9 : zhw t n k [114, 101, 97, 99, 104]
  rotate_left
  · simp only [e0, e1, e2, e3, e4, e5, e6, e7, e8, e9, if_true, if_false, Bool.false_eq_true] at hv
    subst hv
    simp (disch := omega) only [q_267_0, b_267_0, q_267_159, b_267_159, ↓w_aload_n_0, ↓w_iload_n_1, ↓w_getfield, ↓w_goto, ↓w_tableswitch, ↓w_invokevirtual_1, stw_0, stw_i, stw_l, stw_r, ofK0, ofK1, ofK2, lst1, lst2, lkill, kont_none, kont_some, Int.reduceToNat, List.length_cons, List.length_nil, Nat.reduceAdd, Nat.reduceLeDiff, Nat.zero_le, true_and, and_true, if_true, if_false, ne_eq, Int.reduceEq, Int.reduceNeg, not_false_eq_true, not_true_eq_false, ↓reduceIte, Int.reduceLT, Int.reduceLE, and_self, or_true, true_or, or_false, false_or, false_and, and_false, ah_t_w, ah_m_w, ah_n_w, lst1_0, List.tail_cons, w32_i, zbd, lst2_0, asc, Option.getD_some, Option.getD_none, mt_1036a hM, mt_1115a hM, mt_1115b hM, mf_108 hM]
    refine c_238 hX (wb_1115 hM) (by decide) (by decide) (fun h' g _ _ => by rw [hs, e9] at g; cases g) (fun h' g hX' hO => ?_)
    rw [hs] at hX'
    simp (disch := omega) only [b_267_159, q_267_189, b_267_189, ↓w_aload_n_0, ↓w_getfield, ↓w_goto, ↓w_return, ↓w_invokevirtual_1, stw_0, stw_i, stw_l, stw_r, ofK0, ofK1, ofK2, lst1, lst2, lkill, kont_none, kont_some, Int.reduceToNat, List.length_cons, List.length_nil, Nat.reduceAdd, Nat.reduceLeDiff, Nat.zero_le, true_and, and_true, if_true, if_false, ne_eq, Int.reduceEq, Int.reduceNeg, not_false_eq_true, not_true_eq_false, ↓reduceIte, Int.reduceLT, Int.reduceLE, and_self, or_true, true_or, or_false, false_or, false_and, and_false, ah_t_w, ah_m_w, ah_n_w, lst1_0, List.tail_cons, w32_i, zbd, lst2_0]
    exact hq h' hX' hO
  cases e10 : zhw t n k [109, 111, 118, 101, 115]
  rotate_left
  · simp only [e0, e1, e2, e3, e4, e5, e6, e7, e8, e9, e10, if_true, if_false, Bool.false_eq_true] at hv
    subst hv
    simp (disch := omega) only [q_267_0, b_267_0, q_267_170, b_267_170, ↓w_aload_n_0, ↓w_iload_n_1, ↓w_getfield, ↓w_goto, ↓w_tableswitch, ↓w_invokevirtual_1, stw_0, stw_i, stw_l, stw_r, ofK0, ofK1, ofK2, lst1, lst2, lkill, kont_none, kont_some, Int.reduceToNat, List.length_cons, List.length_nil, Nat.reduceAdd, Nat.reduceLeDiff, Nat.zero_le, true_and, and_true, if_true, if_false, ne_eq, Int.reduceEq, Int.reduceNeg, not_false_eq_true, not_true_eq_false, ↓reduceIte, Int.reduceLT, Int.reduceLE, and_self, or_true, true_or, or_false, false_or, false_and, and_false, ah_t_w, ah_m_w, ah_n_w, lst1_0, List.tail_cons, w32_i, zbd, lst2_0, asc, Option.getD_some, Option.getD_none, mt_1036a hM, mt_1116a hM, mt_1116b hM, mf_109 hM]
    refine c_238 hX (wb_1116 hM) (by decide) (by decide) (fun h' g _ _ => by rw [hs, e10] at g; cases g) (fun h' g hX' hO => ?_)
    rw [hs] at hX'
    simp (disch := omega) only [b_267_170, q_267_189, b_267_189, ↓w_aload_n_0, ↓w_getfield, ↓w_goto, ↓w_return, ↓w_invokevirtual_1, stw_0, stw_i, stw_l, stw_r, ofK0, ofK1, ofK2, lst1, lst2, lkill, kont_none, kont_some, Int.reduceToNat, List.length_cons, List.length_nil, Nat.reduceAdd, Nat.reduceLeDiff, Nat.zero_le, true_and, and_true, if_true, if_false, ne_eq, Int.reduceEq, Int.reduceNeg, not_false_eq_true, not_true_eq_false, ↓reduceIte, Int.reduceLT, Int.reduceLE, and_self, or_true, true_or, or_false, false_or, false_and, and_false, ah_t_w, ah_m_w, ah_n_w, lst1_0, List.tail_cons, w32_i, zbd, lst2_0]
    exact hq h' hX' hO
  simp only [e0, e1, e2, e3, e4, e5, e6, e7, e8, e9, e10, if_false, Bool.false_eq_true] at hv
  omega
theorem b_267 {kk pp : Int} (hB : BX kk pp h) (hv : v = 11) : wpC (d + 2) 267 [.inr (.inr 1036), .inl v] h Q ↔ Q (.inl none) h := by
  subst hv
  apply CT_iff; apply CT_of; rw [wpC_B]; refine ⟨⟨Nat.zero_lt_succ _, Nat.le_of_ble_eq_true rfl⟩, ?_⟩; simp only [lent]
  simp (disch := omega) only [q_267_0, b_267_0, q_267_181, b_267_181, q_267_189, b_267_189, ↓w_aload_n_0, ↓w_iload_n_1, ↓w_getfield, ↓w_nop, ↓w_tableswitch, ↓w_return, ↓w_invokevirtual_1, stw_0, stw_i, stw_l, stw_r, ofK0, ofK1, ofK2, lst1, lst2, lkill, kont_none, kont_some, Int.reduceToNat, List.length_cons, List.length_nil, Nat.reduceAdd, Nat.reduceLeDiff, Nat.zero_le, true_and, and_true, if_true, if_false, ne_eq, Int.reduceEq, Int.reduceNeg, not_false_eq_true, not_true_eq_false, ↓reduceIte, Int.reduceLT, Int.reduceLE, and_self, or_true, true_or, or_false, false_or, false_and, and_false, ah_t_w, ah_m_w, ah_n_w, lst1_0, List.tail_cons, w32_i, zbd, lst2_0, asc, Option.getD_some, Option.getD_none, mt_1036a hB.1, mt_1108a hB.1, mt_1108b hB.1, mf_101 hB.1, b_238 hB]
end Q3
