/-! ===== X's reader: texts that are equal; words asked for ===== -/
def CO (h h' : AH) (a b : Int) : Prop := ah_n h' ≤ ah_n h + a ∧ ah_s h' ≤ ah_s h + b
/-- the first word of a list that is here -/
def zfw (t : Int → Int) (n k : Int) : List (List Int) → Int → Int
  | [], _ => -1
  | W :: L, i => if zhw t n k W = true then i else zfw t n k L (i + 1)
section B5
variable {W' : Int → Int → Prop} {d : Nat} {h h' h1 h2 h0 : AH} {Q : QQ} {x y z m k s a b c v n p q r o i f N lo hi A B E : Int} {S T T' : Int → Int → Int} {t nw nw' pt of tp : Int → Int} {tl : ALoc} {w u l W : List Int}
set_option maxHeartbeats 4000000
theorem getD_ext (hl : w.length = u.length) (he : ∀ i : Nat, i < w.length → w.getD i 0 = u.getD i 0) : w = u := by
  refine List.ext_getElem hl (fun i a b => ?_)
  have := he i a
  rw [List.getD_eq_getElem?_getD, List.getD_eq_getElem?_getD, List.getElem?_eq_getElem a, List.getElem?_eq_getElem b] at this
  simpa using this
theorem l_3 (ta : ah_t h a = (-2, (w.length : Int))) (tb : ah_t h b = (-2, (w.length : Int))) (ea : ∀ i : Nat, i < w.length → ah_m h a i = w.getD i 0) (eb : ∀ i : Nat, i < w.length → ah_m h b i = u.getD i 0) (hl : w.length ≤ 2000) : ∀ (j i : Nat), i + j = w.length → wpB d 3 9 [some (.inr (.inr a)), some (.inr (.inr b)), some (.inl i)] [] h (fun o h1 => (∃ e : Bool, o = .inl (some (.inl (zb e))) ∧ (e = true ↔ ∀ x : Nat, i ≤ x → x < w.length → w.getD x 0 = u.getD x 0)) ∧ h1 = h) := by
  intro j
  induction j with
  | zero =>
    intro i i1
    have t1 : (ah_t h a).1 < 0 := by rw [ta]; exact (by decide : (-2 : Int) < 0)
    have t2 : (ah_t h a).2 = w.length := by rw [ta]
    have hlt : ¬ (i : Int) < w.length := by omega
    simp (disch := omega) only [q_3_9, b_3_9, q_3_32, b_3_32, ↓w_iconst, ↓w_aload_n_0, ↓w_aload_n_1, ↓w_iload_n_2, ↓w_arraylength, ↓w_baload, ↓w_if_icmp_eq, ↓w_if_icmp_ge, ↓w_ireturn1, stw_0, stw_i, stw_l, stw_r, ofK0, ofK1, ofK2, lst1, lst2, lkill, kont_none, kont_some, Int.reduceToNat, List.length_cons, List.length_nil, Nat.reduceAdd, Nat.reduceLeDiff, Nat.zero_le, true_and, and_true, if_true, if_false, ne_eq, Int.reduceEq, Int.reduceNeg, not_false_eq_true, not_true_eq_false, ↓reduceIte, Int.reduceLT, Int.reduceLE, and_self, or_true, true_or, or_false, false_or, false_and, and_false, ah_t_w, ah_m_w, ah_n_w, lst1_0, List.tail_cons, w32_i, zbd, lst2_0, t1, t2, hlt]
    exact ⟨true, rfl, fun _ x a b => by omega, fun _ => rfl⟩
  | succ j ih =>
    intro i i1
    have t1 : (ah_t h a).1 < 0 := by rw [ta]; exact (by decide : (-2 : Int) < 0)
    have t1' : (ah_t h a).1 = -2 := by rw [ta]
    have t2 : (ah_t h a).2 = w.length := by rw [ta]
    have t3 : (ah_t h b).1 = -2 := by rw [tb]
    have t4 : (ah_t h b).2 = w.length := by rw [tb]
    have hlt : (i : Int) < w.length := by omega
    have i0 : 0 ≤ (i : Int) := by omega
    have e1 := ea i (by omega)
    have e2 := eb i (by omega)
    have ih := ih (i + 1) (by omega)
    rw [show ((i + 1 : Nat) : Int) = (i : Int) + 1 by omega] at ih
    rw [q_3_9]
    by_cases g : w.getD i 0 = u.getD i 0
    · have g' : ah_m h a i = ah_m h b i := by rw [e1, e2]; exact g
      simp (disch := omega) only [b_3_9, q_3_26, b_3_26, ↓w_iconst, ↓w_aload_n_0, ↓w_aload_n_1, ↓w_iload_n_2, ↓w_iinc_2, ↓w_arraylength, ↓w_baload, ↓w_goto, ↓w_if_icmp_eq, ↓w_if_icmp_ge, ↓w_ireturn1, stw_0, stw_i, stw_l, stw_r, ofK0, ofK1, ofK2, lst1, lst2, lkill, kont_none, kont_some, Int.reduceToNat, List.length_cons, List.length_nil, Nat.reduceAdd, Nat.reduceLeDiff, Nat.zero_le, true_and, and_true, if_true, if_false, ne_eq, Int.reduceEq, Int.reduceNeg, not_false_eq_true, not_true_eq_false, ↓reduceIte, Int.reduceLT, Int.reduceLE, and_self, or_true, true_or, or_false, false_or, false_and, and_false, ah_t_w, ah_m_w, ah_n_w, lst1_0, List.tail_cons, w32_i, zbd, lst2_0, t1', t2, t3, t4, hlt, i0, eq_true g']
      refine wpB_mono ih (fun o h1 q => ⟨?_, q.2⟩)
      obtain ⟨e, ho, he⟩ := q.1
      refine ⟨e, ho, he.trans ⟨fun z x a b => ?_, fun z x a b => z x (by omega) b⟩⟩
      by_cases q : x = i
      · rw [q]; exact g
      · exact z x (by omega) b
    · have g' : ¬ ah_m h a i = ah_m h b i := by rw [e1, e2]; exact g
      simp (disch := omega) only [b_3_9, ↓w_iconst, ↓w_aload_n_0, ↓w_aload_n_1, ↓w_iload_n_2, ↓w_arraylength, ↓w_baload, ↓w_if_icmp_eq, ↓w_if_icmp_ge, ↓w_ireturn1, stw_0, stw_i, stw_l, stw_r, ofK0, ofK1, ofK2, lst1, lst2, lkill, kont_none, kont_some, Int.reduceToNat, List.length_cons, List.length_nil, Nat.reduceAdd, Nat.reduceLeDiff, Nat.zero_le, true_and, and_true, if_true, if_false, ne_eq, Int.reduceEq, Int.reduceNeg, not_false_eq_true, not_true_eq_false, ↓reduceIte, Int.reduceLT, Int.reduceLE, and_self, or_true, true_or, or_false, false_or, false_and, and_false, ah_t_w, ah_m_w, ah_n_w, lst1_0, List.tail_cons, w32_i, zbd, lst2_0, t1', t2, t3, t4, hlt, i0, eq_false g']
      exact ⟨false, rfl, fun z => (by cases z), fun z => absurd (z i (by omega) (by omega)) g⟩
theorem c_3 (ta : ah_t h a = (-2, (w.length : Int))) (tb : ah_t h b = (-2, (u.length : Int))) (ea : ∀ i : Nat, i < w.length → ah_m h a i = w.getD i 0) (eb : ∀ i : Nat, i < u.length → ah_m h b i = u.getD i 0) (hl : w.length ≤ 2000) : wpC (d + 1) 3 [.inr (.inr a), .inr (.inr b)] h Q ↔ Q (.inl (some (.inl (zb (decide (w = u)))))) h := by
  have t1 : (ah_t h a).1 < 0 := by rw [ta]; exact (by decide : (-2 : Int) < 0)
  have t2 : (ah_t h a).2 = w.length := by rw [ta]
  have t3 : (ah_t h b).1 < 0 := by rw [tb]; exact (by decide : (-2 : Int) < 0)
  have t4 : (ah_t h b).2 = u.length := by rw [tb]
  apply CT_iff; apply CT_of; rw [wpC_B]; refine ⟨⟨Nat.zero_lt_succ _, Nat.le_of_ble_eq_true rfl⟩, ?_⟩; simp only [lent]
  by_cases g : w.length = u.length
  · have g' : (w.length : Int) = u.length := by omega
    simp (disch := omega) only [q_3_0, b_3_0, ↓w_iconst, ↓w_aload_n_0, ↓w_aload_n_1, ↓w_istore_n_2, ↓w_arraylength, ↓w_nop, ↓w_if_icmp_ne, stw_0, stw_i, stw_l, stw_r, ofK0, ofK1, ofK2, lst1, lst2, lkill, kont_none, kont_some, Int.reduceToNat, List.length_cons, List.length_nil, Nat.reduceAdd, Nat.reduceLeDiff, Nat.zero_le, true_and, and_true, if_true, if_false, ne_eq, Int.reduceEq, Int.reduceNeg, not_false_eq_true, not_true_eq_false, ↓reduceIte, Int.reduceLT, Int.reduceLE, and_self, or_true, true_or, or_false, false_or, false_and, and_false, ah_t_w, ah_m_w, ah_n_w, lst1_0, List.tail_cons, w32_i, zbd, lst2_0, t1, t2, t3, t4, eq_true g']
    refine wpB_mono (l_3 (d := d) (w := w) (u := u) ta (by rw [tb, g]) ea (fun i q => eb i (by omega)) hl w.length 0 (by omega)) (fun o h1 q => ⟨?_, q.2⟩)
    obtain ⟨e, ho, he⟩ := q.1
    rw [ho]
    have : e = decide (w = u) := by
      rw [Bool.eq_iff_iff, he, decide_eq_true_eq]
      exact ⟨fun z => getD_ext g (fun i a => z i (by omega) a), fun z x a b => by rw [z]⟩
    rw [this]
  · have g' : ¬ (w.length : Int) = u.length := by omega
    have e : decide (w = u) = false := decide_eq_false (fun q => g (by rw [q]))
    rw [e]
    simp (disch := omega) only [q_3_0, b_3_0, q_3_34, b_3_34, ↓w_iconst, ↓w_aload_n_0, ↓w_aload_n_1, ↓w_istore_n_2, ↓w_arraylength, ↓w_nop, ↓w_if_icmp_ne, ↓w_ireturn1, stw_0, stw_i, stw_l, stw_r, ofK0, ofK1, ofK2, lst1, lst2, lkill, kont_none, kont_some, Int.reduceToNat, List.length_cons, List.length_nil, Nat.reduceAdd, Nat.reduceLeDiff, Nat.zero_le, true_and, and_true, if_true, if_false, ne_eq, Int.reduceEq, Int.reduceNeg, not_false_eq_true, not_true_eq_false, ↓reduceIte, Int.reduceLT, Int.reduceLE, and_self, or_true, true_or, or_false, false_or, false_and, and_false, ah_t_w, ah_m_w, ah_n_w, lst1_0, List.tail_cons, w32_i, zbd, lst2_0, t1, t2, t3, t4, g', zb_f]
theorem c_57 (hp : STR h p w) (hq : STR h q u) (h0 : 0 < p) (hl : w.length ≤ 2000) : wpC (d + 2) 57 [.inr (.inr p), .inr (.inr q)] h Q ↔ Q (.inl (some (.inl (zb (decide (w = u)))))) h := by
  have t1 := hp.1
  have t2 := hq.1
  have c1 := hp.2.1
  have c2 := hq.2.1
  apply CT_iff; apply CT_of; rw [wpC_B]; refine ⟨⟨Nat.zero_lt_succ _, Nat.le_of_ble_eq_true rfl⟩, ?_⟩; simp only [lent]
  by_cases g : p = q
  · have e : w = u := by
      have l1 := hp.2.2.1
      have l2 := hq.2.2.1
      rw [g, l2] at l1
      have l3 : (u.length : Int) = w.length := congrArg Prod.snd l1
      refine getD_ext (by omega) (fun i a => ?_)
      rw [← hp.2.2.2 i a, g, hq.2.2.2 i (by omega)]
    rw [decide_eq_true e]
    simp (disch := omega) only [q_57_0, b_57_0, ↓w_iconst, ↓w_aload_n_0, ↓w_aload_n_1, ↓w_acmp_ne, ↓w_ireturn1, stw_0, stw_i, stw_l, stw_r, ofK0, ofK1, ofK2, lst1, lst2, lkill, kont_none, kont_some, Int.reduceToNat, List.length_cons, List.length_nil, Nat.reduceAdd, Nat.reduceLeDiff, Nat.zero_le, true_and, and_true, if_true, if_false, ne_eq, Int.reduceEq, Int.reduceNeg, not_false_eq_true, not_true_eq_false, ↓reduceIte, Int.reduceLT, Int.reduceLE, and_self, or_true, true_or, or_false, false_or, false_and, and_false, ah_t_w, ah_m_w, ah_n_w, lst1_0, List.tail_cons, w32_i, zbd, lst2_0, eq_true g, zb_t]
  · cases e : decide (w = u) with
    | true =>
      simp (disch := omega) only [q_57_0, b_57_0, q_57_7, b_57_7, q_57_36, b_57_36, q_57_54, b_57_54, q_57_55, b_57_55, ↓w_iconst, ↓w_getstatic, ↓w_aload_n_0, ↓w_aload_n_1, ↓w_aload_n_2, ↓w_astore_n_2, ↓w_getfield, ↓w_checkcast, ↓w_instanceof, ↓w_nop, ↓w_goto, ↓w_ifCond_eq, ↓w_if_icmp_ne, ↓w_acmp_ne, ↓w_ireturn1, ↓w_invokestatic_2, stw_0, stw_i, stw_l, stw_r, ofK0, ofK1, ofK2, lst1, lst2, lkill, kont_none, kont_some, Int.reduceToNat, List.length_cons, List.length_nil, Nat.reduceAdd, Nat.reduceLeDiff, Nat.zero_le, true_and, and_true, if_true, if_false, ne_eq, Int.reduceEq, Int.reduceNeg, not_false_eq_true, not_true_eq_false, ↓reduceIte, Int.reduceLT, Int.reduceLE, and_self, or_true, true_or, or_false, false_or, false_and, and_false, ah_t_w, ah_m_w, ah_n_w, lst1_0, List.tail_cons, w32_i, zbd, lst2_0, eq_false g, eq_true h0, t1, t2, c1, c2, c_3 hp.2.2.1 hq.2.2.1 hp.2.2.2 hq.2.2.2 hl, e, zb_t, asc, Option.isSome_some]
    | false =>
      simp (disch := omega) only [q_57_0, b_57_0, q_57_7, b_57_7, q_57_36, b_57_36, q_57_54, b_57_54, q_57_55, b_57_55, ↓w_iconst, ↓w_getstatic, ↓w_aload_n_0, ↓w_aload_n_1, ↓w_aload_n_2, ↓w_astore_n_2, ↓w_getfield, ↓w_checkcast, ↓w_instanceof, ↓w_nop, ↓w_goto, ↓w_ifCond_eq, ↓w_if_icmp_ne, ↓w_acmp_ne, ↓w_ireturn1, ↓w_invokestatic_2, stw_0, stw_i, stw_l, stw_r, ofK0, ofK1, ofK2, lst1, lst2, lkill, kont_none, kont_some, Int.reduceToNat, List.length_cons, List.length_nil, Nat.reduceAdd, Nat.reduceLeDiff, Nat.zero_le, true_and, and_true, if_true, if_false, ne_eq, Int.reduceEq, Int.reduceNeg, not_false_eq_true, not_true_eq_false, ↓reduceIte, Int.reduceLT, Int.reduceLE, and_self, or_true, true_or, or_false, false_or, false_and, and_false, ah_t_w, ah_m_w, ah_n_w, lst1_0, List.tail_cons, w32_i, zbd, lst2_0, eq_false g, eq_true h0, t1, t2, c1, c2, c_3 hp.2.2.1 hq.2.2.1 hp.2.2.2 hq.2.2.2 hl, e, zb_f, asc, Option.isSome_some]
theorem zwq_sub : ∀ (W : List Int) (k : Int), zwq t k W = true ↔ zsub t k W.length = W := by
  intro W
  induction W with
  | nil => intro k; simp [zwq, zsub]
  | cons c W ih =>
    intro k
    simp only [zwq, List.length_cons, zsub]
    by_cases g : t k = c
    · rw [if_pos g, ih, g]; simp
    · rw [if_neg g]; simp [g]
theorem zhw_sub (hb : zwb t n k = true) (hle : k ≤ n) : zhw t n k W = decide (zsub t k (zwe t n k - k).toNat = W) := by
  have hl := zwe_le (t := t) hle
  unfold zhw
  rw [hb, Bool.true_and, Bool.eq_iff_iff, Bool.and_eq_true, decide_eq_true_eq, decide_eq_true_eq, zwq_sub]
  constructor
  · rintro ⟨a, b⟩
    rw [show (zwe t n k - k).toNat = W.length by omega]; exact b
  · intro e
    have := congrArg List.length e
    rw [zsub_len] at this
    refine ⟨by omega, ?_⟩
    rw [← this]; exact e
theorem zhw_nb (hb : zwb t n k = false) : zhw t n k W = false := by unfold zhw; rw [hb]; rfl
/-- equality of a word read with a constant -/
theorem eqW (hb : zwb t n k = true) (h0 : 0 ≤ k) (hle : k ≤ n) (hn : n ≤ 1600) (hs : STR h p (zsub t k (zwe t n k - k).toNat)) (hc : STR h q W) (hp : 0 < p) : wpC (d + 2) 57 [.inr (.inr p), .inr (.inr q)] h Q ↔ Q (.inl (some (.inl (zb (zhw t n k W))))) h := by
  rw [zhw_sub hb hle]
  have hl := zwe_le (t := t) hle
  exact c_57 hs hc hp (by rw [zsub_len]; omega)
theorem eqW' (hb : zwb t n k = true) (h0 : 0 ≤ k) (hle : k ≤ n) (hn : n ≤ 1600) (hs : STR h p (zsub t k (zwe t n k - k).toNat)) (hc : STR h q W) (hp : 0 < p) (hl : W.length ≤ 2000) : wpC (d + 2) 57 [.inr (.inr q), .inr (.inr p)] h Q ↔ Q (.inl (some (.inl (zb (zhw t n k W))))) h := by
  rw [zhw_sub hb hle]
  have t1 := hs.1
  have t2 := hc.1
  have c1 := hs.2.1
  have c2 := hc.2.1
  have ed : decide (zsub t k (zwe t n k - k).toNat = W) = decide (W = zsub t k (zwe t n k - k).toNat) := by
    rw [Bool.eq_iff_iff, decide_eq_true_eq, decide_eq_true_eq]; exact ⟨Eq.symm, Eq.symm⟩
  rw [ed]
  by_cases g : q = p
  · have e : W = zsub t k (zwe t n k - k).toNat := by
      have l1 := hs.2.2.1
      have l2 := hc.2.2.1
      rw [← g, l2] at l1
      have l3 : (W.length : Int) = (zsub t k (zwe t n k - k).toNat).length := congrArg Prod.snd l1
      refine getD_ext (by omega) (fun i a => ?_)
      rw [← hc.2.2.2 i a, g, hs.2.2.2 i (by omega)]
    rw [decide_eq_true e]
    apply CT_iff; apply CT_of; rw [wpC_B]; refine ⟨⟨Nat.zero_lt_succ _, Nat.le_of_ble_eq_true rfl⟩, ?_⟩; simp only [lent]
    simp (disch := omega) only [q_57_0, b_57_0, ↓w_iconst, ↓w_aload_n_0, ↓w_aload_n_1, ↓w_acmp_ne, ↓w_ireturn1, stw_0, stw_i, stw_l, stw_r, ofK0, ofK1, ofK2, lst1, lst2, lkill, kont_none, kont_some, Int.reduceToNat, List.length_cons, List.length_nil, Nat.reduceAdd, Nat.reduceLeDiff, Nat.zero_le, true_and, and_true, if_true, if_false, ne_eq, Int.reduceEq, Int.reduceNeg, not_false_eq_true, not_true_eq_false, ↓reduceIte, Int.reduceLT, Int.reduceLE, and_self, or_true, true_or, or_false, false_or, false_and, and_false, ah_t_w, ah_m_w, ah_n_w, lst1_0, List.tail_cons, w32_i, zbd, lst2_0, eq_true g, zb_t]
  · cases e : decide (W = zsub t k (zwe t n k - k).toNat) with
    | true =>
      apply CT_iff; apply CT_of; rw [wpC_B]; refine ⟨⟨Nat.zero_lt_succ _, Nat.le_of_ble_eq_true rfl⟩, ?_⟩; simp only [lent]
      simp (disch := omega) only [q_57_0, b_57_0, q_57_7, b_57_7, q_57_36, b_57_36, q_57_54, b_57_54, q_57_55, b_57_55, ↓w_iconst, ↓w_getstatic, ↓w_aload_n_0, ↓w_aload_n_1, ↓w_aload_n_2, ↓w_astore_n_2, ↓w_getfield, ↓w_checkcast, ↓w_instanceof, ↓w_nop, ↓w_goto, ↓w_ifCond_eq, ↓w_if_icmp_ne, ↓w_acmp_ne, ↓w_ireturn1, ↓w_invokestatic_2, stw_0, stw_i, stw_l, stw_r, ofK0, ofK1, ofK2, lst1, lst2, lkill, kont_none, kont_some, Int.reduceToNat, List.length_cons, List.length_nil, Nat.reduceAdd, Nat.reduceLeDiff, Nat.zero_le, true_and, and_true, if_true, if_false, ne_eq, Int.reduceEq, Int.reduceNeg, not_false_eq_true, not_true_eq_false, ↓reduceIte, Int.reduceLT, Int.reduceLE, and_self, or_true, true_or, or_false, false_or, false_and, and_false, ah_t_w, ah_m_w, ah_n_w, lst1_0, List.tail_cons, w32_i, zbd, lst2_0, eq_false g, eq_true hp, t1, t2, c1, c2, c_3 hc.2.2.1 hs.2.2.1 hc.2.2.2 hs.2.2.2 hl, e, zb_t, asc, Option.isSome_some]
    | false =>
      apply CT_iff; apply CT_of; rw [wpC_B]; refine ⟨⟨Nat.zero_lt_succ _, Nat.le_of_ble_eq_true rfl⟩, ?_⟩; simp only [lent]
      simp (disch := omega) only [q_57_0, b_57_0, q_57_7, b_57_7, q_57_36, b_57_36, q_57_54, b_57_54, q_57_55, b_57_55, ↓w_iconst, ↓w_getstatic, ↓w_aload_n_0, ↓w_aload_n_1, ↓w_aload_n_2, ↓w_astore_n_2, ↓w_getfield, ↓w_checkcast, ↓w_instanceof, ↓w_nop, ↓w_goto, ↓w_ifCond_eq, ↓w_if_icmp_ne, ↓w_acmp_ne, ↓w_ireturn1, ↓w_invokestatic_2, stw_0, stw_i, stw_l, stw_r, ofK0, ofK1, ofK2, lst1, lst2, lkill, kont_none, kont_some, Int.reduceToNat, List.length_cons, List.length_nil, Nat.reduceAdd, Nat.reduceLeDiff, Nat.zero_le, true_and, and_true, if_true, if_false, ne_eq, Int.reduceEq, Int.reduceNeg, not_false_eq_true, not_true_eq_false, ↓reduceIte, Int.reduceLT, Int.reduceLE, and_self, or_true, true_or, or_false, false_or, false_and, and_false, ah_t_w, ah_m_w, ah_n_w, lst1_0, List.tail_cons, w32_i, zbd, lst2_0, eq_false g, eq_true hp, t1, t2, c1, c2, c_3 hc.2.2.1 hs.2.2.1 hc.2.2.2 hs.2.2.2 hl, e, zb_f, asc, Option.isSome_some]
theorem l_93 {ps : List Int} {WL : List (List Int)} (hb : zwb t n k = true) (h0 : 0 ≤ k) (hle : k ≤ n) (hn : n ≤ 1600) (hs : STR h p (zsub t k (zwe t n k - k).toNat)) (hp : 0 < p) (tA : ah_t h A = (-14, (ps.length : Int))) (eA : ∀ i : Nat, i < ps.length → ah_m h A i = ps.getD i 0) (hW : WL.length = ps.length) (hl : ps.length ≤ 100) (hc : ∀ i : Nat, i < ps.length → STR h (ps.getD i 0) (WL.getD i []) ∧ (WL.getD i []).length ≤ 20) :
    ∀ (j i : Nat), i + j = ps.length → wpB (d + 2) 93 2 [some (.inr (.inr p)), some (.inr (.inr A)), some (.inl i)] [] h (fun o h1 => o = .inl (some (.inl (zfw t n k (WL.drop i) i))) ∧ h1 = h) := by
  have t1 : (ah_t h A).1 < 0 := by rw [tA]; exact (by decide : (-14 : Int) < 0)
  have t1' : (ah_t h A).1 = -14 := by rw [tA]
  have t2 : (ah_t h A).2 = ps.length := by rw [tA]
  intro j
  induction j with
  | zero =>
    intro i i1
    have hlt : ¬ (i : Int) < ps.length := by omega
    rw [List.drop_eq_nil_of_le (by omega)]
    simp (disch := omega) only [q_93_2, b_93_2, q_93_26, b_93_26, ↓w_iconst, ↓w_aload_n_0, ↓w_aload_n_1, ↓w_iload_n_2, ↓w_arraylength, ↓w_aaload, ↓w_ifCond_eq, ↓w_if_icmp_ge, ↓w_ireturn0, ↓w_invokevirtual_1, stw_0, stw_i, stw_l, stw_r, ofK0, ofK1, ofK2, lst1, lst2, lkill, kont_none, kont_some, Int.reduceToNat, List.length_cons, List.length_nil, Nat.reduceAdd, Nat.reduceLeDiff, Nat.zero_le, true_and, and_true, if_true, if_false, ne_eq, Int.reduceEq, Int.reduceNeg, not_false_eq_true, not_true_eq_false, ↓reduceIte, Int.reduceLT, Int.reduceLE, and_self, or_true, true_or, or_false, false_or, false_and, and_false, ah_t_w, ah_m_w, ah_n_w, lst1_0, List.tail_cons, w32_i, zbd, lst2_0, t1, t2, hlt, zfw]
  | succ j ih =>
    intro i i1
    have hlt : (i : Int) < ps.length := by omega
    have i0 : 0 ≤ (i : Int) := by omega
    have e1 := eA i (by omega)
    have hci := hc i (by omega)
    have tS := hci.1.1
    have ih := ih (i + 1) (by omega)
    rw [show ((i + 1 : Nat) : Int) = (i : Int) + 1 by omega] at ih
    have ed : WL.drop i = WL.getD i [] :: WL.drop (i + 1) := by
      rw [List.getD_eq_getElem?_getD, List.getElem?_eq_getElem (by omega)]
      exact List.drop_eq_getElem_cons (by omega)
    rw [q_93_2, ed]
    simp only [zfw]
    cases g : zhw t n k (WL.getD i []) with
    | true =>
      rw [if_pos rfl]
      simp (disch := omega) only [b_93_2, ↓w_aload_n_0, ↓w_aload_n_1, ↓w_iload_n_2, ↓w_arraylength, ↓w_aaload, ↓w_ifCond_eq, ↓w_if_icmp_ge, ↓w_ireturn0, ↓w_invokevirtual_1, stw_0, stw_i, stw_l, stw_r, ofK0, ofK1, ofK2, lst1, lst2, lkill, kont_none, kont_some, Int.reduceToNat, List.length_cons, List.length_nil, Nat.reduceAdd, Nat.reduceLeDiff, Nat.zero_le, true_and, and_true, if_true, if_false, ne_eq, Int.reduceEq, Int.reduceNeg, not_false_eq_true, not_true_eq_false, ↓reduceIte, Int.reduceLT, Int.reduceLE, and_self, or_true, true_or, or_false, false_or, false_and, and_false, ah_t_w, ah_m_w, ah_n_w, lst1_0, List.tail_cons, w32_i, zbd, lst2_0, t1', t2, hlt, i0, e1, tS, eqW' hb h0 hle hn hs hci.1 hp (show (WL.getD i []).length ≤ 2000 by omega), g, zb_t]
    | false =>
      rw [if_neg (by decide)]
      simp (disch := omega) only [b_93_2, q_93_20, b_93_20, ↓w_aload_n_0, ↓w_aload_n_1, ↓w_iload_n_2, ↓w_iinc_2, ↓w_arraylength, ↓w_aaload, ↓w_goto, ↓w_ifCond_eq, ↓w_if_icmp_ge, ↓w_ireturn0, ↓w_invokevirtual_1, stw_0, stw_i, stw_l, stw_r, ofK0, ofK1, ofK2, lst1, lst2, lkill, kont_none, kont_some, Int.reduceToNat, List.length_cons, List.length_nil, Nat.reduceAdd, Nat.reduceLeDiff, Nat.zero_le, true_and, and_true, if_true, if_false, ne_eq, Int.reduceEq, Int.reduceNeg, not_false_eq_true, not_true_eq_false, ↓reduceIte, Int.reduceLT, Int.reduceLE, and_self, or_true, true_or, or_false, false_or, false_and, and_false, ah_t_w, ah_m_w, ah_n_w, lst1_0, List.tail_cons, w32_i, zbd, lst2_0, t1', t2, hlt, i0, e1, tS, eqW' hb h0 hle hn hs hci.1 hp (show (WL.getD i []).length ≤ 2000 by omega), g, zb_f]
      exact ih
theorem c_93 {ps : List Int} {WL : List (List Int)} (hb : zwb t n k = true) (h0 : 0 ≤ k) (hle : k ≤ n) (hn : n ≤ 1600) (hs : STR h p (zsub t k (zwe t n k - k).toNat)) (hp : 0 < p) (tA : ah_t h A = (-14, (ps.length : Int))) (eA : ∀ i : Nat, i < ps.length → ah_m h A i = ps.getD i 0) (hW : WL.length = ps.length) (hl : ps.length ≤ 100) (hc : ∀ i : Nat, i < ps.length → STR h (ps.getD i 0) (WL.getD i []) ∧ (WL.getD i []).length ≤ 20) : wpC (d + 3) 93 [.inr (.inr p), .inr (.inr A)] h Q ↔ Q (.inl (some (.inl (zfw t n k WL 0)))) h := by
  apply CT_iff; apply CT_of; rw [wpC_B]; refine ⟨⟨Nat.zero_lt_succ _, Nat.le_of_ble_eq_true rfl⟩, ?_⟩; simp only [lent]
  simp (disch := omega) only [q_93_0, b_93_0, ↓w_iconst, ↓w_istore_n_2, ↓w_nop, stw_0, stw_i, stw_l, stw_r, ofK0, ofK1, ofK2, lst1, lst2, lkill, kont_none, kont_some, Int.reduceToNat, List.length_cons, List.length_nil, Nat.reduceAdd, Nat.reduceLeDiff, Nat.zero_le, true_and, and_true, if_true, if_false, ne_eq, Int.reduceEq, Int.reduceNeg, not_false_eq_true, not_true_eq_false, ↓reduceIte, Int.reduceLT, Int.reduceLE, and_self, or_true, true_or, or_false, false_or, false_and, and_false, ah_t_w, ah_m_w, ah_n_w, lst1_0, List.tail_cons, w32_i, zbd, lst2_0]
  have := l_93 (d := d) hb h0 hle hn hs hp tA eA hW hl hc ps.length 0 (by omega)
  exact this
end B5
