/-! ===== M: statements of a board ===== -/
def zw (S : Int → Int → Int) (r i v : Int) : Int → Int → Int := fun x y => if x = r ∧ y = i then v else S x y
def zth {α β : Type} (r : (Int × Int) ⊕ α) (f : α → (Int × Int) ⊕ β) : (Int × Int) ⊕ β := match r with
  | .inl e => .inl e
  | .inr a => f a
def zask1 (t : Int → Int) (n k : Int) (W : List Int) : (Int × Int) ⊕ Int := if zhw t n (zsk t n k) W = true then .inr (zsk t n k + W.length) else .inl (1, zsk t n k)
def zsgn1 (t : Int → Int) (n k c : Int) : (Int × Int) ⊕ Int := if zB t n (zsk t n k) = c then .inr (zsk t n k + 1) else .inl (1, zsk t n k)
def zold (S : Int → Int → Int) (v : Int) : Bool := decide (zfind S 0 v (S 1072 0).toNat 0 ≠ -1 ∨ zfind S 1 v (S 1072 1).toNat 0 ≠ -1 ∨ zfind S 2 v (S 1072 2).toNat 0 ≠ -1)
def znew (t : Int → Int) (n : Int) (S : Int → Int → Int) (k : Int) : (Int × Int) ⊕ (Int × Int) := zth (zname t n k) fun q => if zold S q.2 = true then .inl (3, zsk t n k) else .inr q
def zadd (S : Int → Int → Int) (a v : Int) : Int → Int → Int := zw (zw S 1073 (8 * a + S 1072 a) v) 1072 a (S 1072 a + 1)
/-- M reads a board: how far, and what is read so far -/
def LSt (t : Int → Int) (n k : Int) (S : Int → Int → Int) (h : AH) : Prop := LX t n k h ∧ stt h = S
/-- how many are read so far -/
def SC (S : Int → Int → Int) : Prop := (0 ≤ S 1072 0 ∧ S 1072 0 ≤ 5) ∧ (0 ≤ S 1072 1 ∧ S 1072 1 ≤ 8) ∧ (0 ≤ S 1072 2 ∧ S 1072 2 ≤ 6)
/-- the rows of the board that is read -/
def LO (r i : Int) : Prop := 0 ≤ i ∧ ((r = 1072 ∧ i < 3) ∨ (r = 1073 ∧ i < 24) ∨ (r = 1074 ∧ i < 4) ∨ (r = 1075 ∧ i < 20) ∨ (r = 1076 ∧ i < 16) ∨ (r = 1077 ∧ i < 16) ∨ (r = 1078 ∧ i < 18) ∨ (r = 1079 ∧ i < 2) ∨ (r = 1080 ∧ i < 1) ∨ (r = 1081 ∧ i < 1) ∨ (r = 1082 ∧ i < 1600))
def WF (r i : Int) : Prop := Wlx r i ∨ (r = 1036 ∧ (i = 60 ∨ i = 61))
def WR (r i : Int) : Prop := Wlx r i ∨ LO r i ∨ (r = 1036 ∧ (i = 60 ∨ i = 61))
section BRD
variable {d : Nat} {h h0 : AH} {Q : QQ} {x y z m k s l w a b c v n p r o lo hi : Int} {S : Int → Int → Int} {t : Int → Int} {W : List Int}
set_option maxHeartbeats 4000000
theorem stt_w (hr : 1072 ≤ r ∧ r ≤ 1082) : stt (ah_w h r k v) = zw (stt h) r k v := by
  funext x y; unfold stt zw; rw [ah_m_w]
  by_cases e : x = r ∧ y = k
  · rw [if_pos e, if_pos e, if_pos (by omega)]
  · rw [if_neg e, if_neg e]
theorem LX_wr {r i z : Int} (hX : LX t n k h) (hr : 1072 ≤ r ∧ r ≤ 1082 ∨ (r = 1036 ∧ (i = 60 ∨ i = 61 ∨ i = 57 ∨ i = 56))) : LX t n k (ah_w h r i z) := by
  obtain ⟨hM, e1, e2, e3, e4, hb, hv, he⟩ := hX
  refine ⟨MI_w hM (by unfold fre; omega), ?_, ?_, ?_, ?_, ⟨hb.1, hb.2.1, hb.2.2.1, by rw [ah_m_w, if_neg (by omega)]; exact hb.2.2.2⟩, hv, ?_⟩
  · rw [← e1]; funext j; rw [ah_m_w, if_neg (by omega)]
  · rw [ah_m_w, if_neg (by omega)]; exact e2
  · rw [ah_m_w, if_neg (by omega)]; exact e3
  · rw [ah_m_w, if_neg (by omega)]; exact e4
  · rw [ah_m_w, if_neg (by omega)]; exact he
theorem stt_o (hr : r < 1072 ∨ 1082 < r) : stt (ah_w h r k v) = stt h := by
  funext x y; unfold stt; split
  · rw [ah_m_w, if_neg (by omega)]
  · rfl
theorem LS_w {i : Int} (hL : LSt t n k S h) (hr : 1072 ≤ r ∧ r ≤ 1082) : LSt t n k (zw S r i v) (ah_w h r i v) :=
  ⟨LX_wr hL.1 (Or.inl hr), by rw [stt_w hr, hL.2]⟩
theorem LS_o {i : Int} (hL : LSt t n k S h) (hi : i = 60 ∨ i = 61 ∨ i = 57 ∨ i = 56) : LSt t n k S (ah_w h 1036 i v) :=
  ⟨LX_wr hL.1 (by omega), by rw [stt_o (by omega)]; exact hL.2⟩
theorem LS_lx {W : Int → Int → Prop} {h' : AH} {k' : Int} (hL : LSt t n k S h) (hX : LX t n k' h') (hO : Off W h h') (hW : ∀ r i, W r i → Wlx r i) : LSt t n k' S h' :=
  ⟨hX, by rw [stt_off hO (fun r i w g => by have := hW _ _ w; unfold Wlx at this; omega)]; exact hL.2⟩
theorem LS_r (hL : LSt t n k S h) (hr : 1072 ≤ r ∧ r ≤ 1082) : ah_m h r = S r := by rw [← hL.2]; exact stt_r hr.1 hr.2
theorem WF_R {r i : Int} (w : WF r i) : WR r i := by rcases w with w | w; exact Or.inl w; exact Or.inr (Or.inr w)
theorem Wlx_R {r i : Int} (w : Wlx r i) : WR r i := Or.inl w
theorem Wat_R {r i : Int} (w : Wat r i) : WR r i := Or.inl (Wat_lx w)
/-! names that are there -/
theorem l_255 (hM : MI h) (eS : stt h = S) (ha : 0 ≤ a ∧ a ≤ 2) (hn : 0 ≤ S 1072 a ∧ S 1072 a ≤ 8) : ∀ (j : Nat) (i : Int), 0 ≤ i → i + j = S 1072 a → wpB d 255 3 [some (.inr (.inr 1036)), some (.inl a), some (.inr (.inl v)), none, some (.inl i)] [] h (fun o h1 => o = .inl (some (.inl (zfind S a v j i))) ∧ h1 = h) := by
  have e72 : ah_m h 1072 = S 1072 := by rw [← eS]; exact stt_r (by decide) (by decide)
  have e73 : ah_m h 1073 = S 1073 := by rw [← eS]; exact stt_r (by decide) (by decide)
  intro j
  induction j with
  | zero =>
    intro i i0 i1
    have hlt : ¬ i < S 1072 a := by omega
    simp (disch := omega) only [q_255_3, b_255_3, q_255_40, b_255_40, ↓w_iconst, ↓w_bipush, ↓w_aload_n_0, ↓w_iload_n_1, ↓w_lload_n_2, ↓w_iload_4, ↓w_iadd, ↓w_imul, ↓w_lcmp, ↓w_getfield, ↓w_iaload, ↓w_laload, ↓w_ifCond_ne, ↓w_if_icmp_ge, ↓w_ireturn0, stw_0, stw_i, stw_l, stw_r, ofK0, ofK1, ofK2, lst1, lst2, lkill, kont_none, kont_some, Int.reduceToNat, List.length_cons, List.length_nil, Nat.reduceAdd, Nat.reduceLeDiff, Nat.zero_le, true_and, and_true, if_true, if_false, ne_eq, Int.reduceEq, Int.reduceNeg, not_false_eq_true, not_true_eq_false, ↓reduceIte, Int.reduceLT, Int.reduceLE, and_self, or_true, true_or, or_false, false_or, false_and, and_false, ah_t_w, ah_m_w, ah_n_w, lst1_0, List.tail_cons, w32_i, zbd, lst2_0, lc_gt, lc_lt, lc_eq, mt_1036a hM, mt_1072a hM, mt_1072b hM, mf_45 hM, mt_1073a hM, mt_1073b hM, mf_46 hM, e72, hlt, zfind]
  | succ j ih =>
    intro i i0 i1
    have hlt : i < S 1072 a := by omega
    have ih := ih (i + 1) (by omega) (by omega)
    rw [q_255_3]
    by_cases g : S 1073 (8 * a + i) = v
    · simp (disch := omega) only [b_255_3, q_255_34, b_255_34, ↓w_bipush, ↓w_aload_n_0, ↓w_iload_n_1, ↓w_lload_n_2, ↓w_iload_4, ↓w_iinc_4, ↓w_iadd, ↓w_imul, ↓w_lcmp, ↓w_getfield, ↓w_iaload, ↓w_laload, ↓w_goto, ↓w_ifCond_ne, ↓w_if_icmp_ge, ↓w_ireturn0, stw_0, stw_i, stw_l, stw_r, ofK0, ofK1, ofK2, lst1, lst2, lkill, kont_none, kont_some, Int.reduceToNat, List.length_cons, List.length_nil, Nat.reduceAdd, Nat.reduceLeDiff, Nat.zero_le, true_and, and_true, if_true, if_false, ne_eq, Int.reduceEq, Int.reduceNeg, not_false_eq_true, not_true_eq_false, ↓reduceIte, Int.reduceLT, Int.reduceLE, and_self, or_true, true_or, or_false, false_or, false_and, and_false, ah_t_w, ah_m_w, ah_n_w, lst1_0, List.tail_cons, w32_i, zbd, lst2_0, lc_gt, lc_lt, lc_eq, mt_1036a hM, mt_1072a hM, mt_1072b hM, mf_45 hM, mt_1073a hM, mt_1073b hM, mf_46 hM, e72, e73, hlt, zfind, g]
    · simp (disch := omega) only [b_255_3, q_255_34, b_255_34, ↓w_bipush, ↓w_aload_n_0, ↓w_iload_n_1, ↓w_lload_n_2, ↓w_iload_4, ↓w_iinc_4, ↓w_iadd, ↓w_imul, ↓w_lcmp, ↓w_getfield, ↓w_iaload, ↓w_laload, ↓w_goto, ↓w_ifCond_ne, ↓w_if_icmp_ge, ↓w_ireturn0, stw_0, stw_i, stw_l, stw_r, ofK0, ofK1, ofK2, lst1, lst2, lkill, kont_none, kont_some, Int.reduceToNat, List.length_cons, List.length_nil, Nat.reduceAdd, Nat.reduceLeDiff, Nat.zero_le, true_and, and_true, if_true, if_false, ne_eq, Int.reduceEq, Int.reduceNeg, not_false_eq_true, not_true_eq_false, ↓reduceIte, Int.reduceLT, Int.reduceLE, and_self, or_true, true_or, or_false, false_or, false_and, and_false, ah_t_w, ah_m_w, ah_n_w, lst1_0, List.tail_cons, w32_i, zbd, lst2_0, lc_gt, lc_lt, lc_eq, mt_1036a hM, mt_1072a hM, mt_1072b hM, mf_45 hM, mt_1073a hM, mt_1073b hM, mf_46 hM, e72, e73, hlt, zfind, g]
      exact ih
theorem c_255 (hM : MI h) (eS : stt h = S) (ha : 0 ≤ a ∧ a ≤ 2) (hn : 0 ≤ S 1072 a ∧ S 1072 a ≤ 8) : wpC (d + 1) 255 [.inr (.inr 1036), .inl a, .inr (.inl v)] h Q ↔ Q (.inl (some (.inl (zfind S a v (S 1072 a).toNat 0)))) h := by
  apply CT_iff; apply CT_of; rw [wpC_B]; refine ⟨⟨Nat.zero_lt_succ _, Nat.le_of_ble_eq_true rfl⟩, ?_⟩; simp only [lent]
  simp (disch := omega) only [q_255_0, b_255_0, ↓w_iconst, ↓w_istore, ↓w_nop, stw_0, stw_i, stw_l, stw_r, ofK0, ofK1, ofK2, lst1, lst2, lkill, kont_none, kont_some, Int.reduceToNat, List.length_cons, List.length_nil, Nat.reduceAdd, Nat.reduceLeDiff, Nat.zero_le, true_and, and_true, if_true, if_false, ne_eq, Int.reduceEq, Int.reduceNeg, not_false_eq_true, not_true_eq_false, ↓reduceIte, Int.reduceLT, Int.reduceLE, and_self, or_true, true_or, or_false, false_or, false_and, and_false, ah_t_w, ah_m_w, ah_n_w, lst1_0, List.tail_cons, w32_i, zbd, lst2_0]
  exact l_255 hM eS ha hn (S 1072 a).toNat 0 (by omega) (by omega)
theorem c_252 (hL : LSt t n k S h) (hC : SC S)
    (hq0 : ∀ h' z kk pp, znew t n S k = .inl (kk, pp) → BX kk pp h' → Off Wlx h h' → Q (.inl (some (.inr (.inl z)))) h')
    (hq1 : ∀ h' q v, znew t n S k = .inr (q, v) → LSt t n q S h' → Off Wlx h h' → Q (.inl (some (.inr (.inl v)))) h') : wpC (d + 5) 252 [.inr (.inr 1036)] h Q := by
  have hX := hL.1
  have hM := hX.1
  unfold znew zth at hq0 hq1
  rw [wpC_B]; refine ⟨⟨Nat.zero_lt_succ _, Nat.le_of_ble_eq_true rfl⟩, ?_⟩; simp only [lent]
  simp (disch := omega) only [q_252_0, b_252_0, ↓w_iconst, ↓w_aload_n_0, ↓w_istore_n_3, ↓w_lstore_n_1, ↓w_nop, ↓w_invokevirtual_0, stw_0, stw_i, stw_l, stw_r, ofK0, ofK1, ofK2, lst1, lst2, lkill, kont_none, kont_some, Int.reduceToNat, List.length_cons, List.length_nil, Nat.reduceAdd, Nat.reduceLeDiff, Nat.zero_le, true_and, and_true, if_true, if_false, ne_eq, Int.reduceEq, Int.reduceNeg, not_false_eq_true, not_true_eq_false, ↓reduceIte, Int.reduceLT, Int.reduceLE, and_self, or_true, true_or, or_false, false_or, false_and, and_false, ah_t_w, ah_m_w, ah_n_w, lst1_0, List.tail_cons, w32_i, zbd, lst2_0, mt_1036a hM]
  -- at fault all the rest does nothing
  have bad : ∀ h' kk pp z i, BX kk pp h' → (i = 0 ∨ i = 1 ∨ i = 2) → (∀ z, Q (.inl (some (.inr (.inl z)))) h') → wpB (d + 4) 252 7 [some (.inr (.inr 1036)), some (.inr (.inl z)), none, some (.inl i)] [] h' Q := by
    intro h' kk pp z i hB hi hq
    have e := hB.2.1; have hk := hB.2.2.2
    have b3 : wpB (d + 4) 252 7 [some (.inr (.inr 1036)), some (.inr (.inl z)), none, some (.inl 3)] [] h' Q := by
      simp (disch := omega) only [q_252_7, b_252_7, q_252_44, b_252_44, ↓w_iconst, ↓w_aload_n_0, ↓w_lload_n_1, ↓w_iload_n_3, ↓w_getfield, ↓w_nop, ↓w_if_icmp_eq, ↓w_ifCond_ne, ↓w_if_icmp_ge, ↓w_lreturn, ↓w_invokevirtual_2, stw_0, stw_i, stw_l, stw_r, ofK0, ofK1, ofK2, lst1, lst2, lkill, kont_none, kont_some, Int.reduceToNat, List.length_cons, List.length_nil, Nat.reduceAdd, Nat.reduceLeDiff, Nat.zero_le, true_and, and_true, if_true, if_false, ne_eq, Int.reduceEq, Int.reduceNeg, not_false_eq_true, not_true_eq_false, ↓reduceIte, Int.reduceLT, Int.reduceLE, and_self, or_true, true_or, or_false, false_or, false_and, and_false, ah_t_w, ah_m_w, ah_n_w, lst1_0, List.tail_cons, w32_i, zbd, lst2_0, mt_1036a hB.1, e, hk]
      exact hq z
    have b2 : wpB (d + 4) 252 7 [some (.inr (.inr 1036)), some (.inr (.inl z)), none, some (.inl 2)] [] h' Q := by
      rw [q_252_7]
      simp (disch := omega) only [b_252_7, q_252_38, b_252_38, ↓w_iconst, ↓w_aload_n_0, ↓w_lload_n_1, ↓w_iload_n_3, ↓w_iinc_3, ↓w_getfield, ↓w_nop, ↓w_goto, ↓w_if_icmp_eq, ↓w_ifCond_ne, ↓w_if_icmp_ge, ↓w_invokevirtual_2, stw_0, stw_i, stw_l, stw_r, ofK0, ofK1, ofK2, lst1, lst2, lkill, kont_none, kont_some, Int.reduceToNat, List.length_cons, List.length_nil, Nat.reduceAdd, Nat.reduceLeDiff, Nat.zero_le, true_and, and_true, if_true, if_false, ne_eq, Int.reduceEq, Int.reduceNeg, not_false_eq_true, not_true_eq_false, ↓reduceIte, Int.reduceLT, Int.reduceLE, and_self, or_true, true_or, or_false, false_or, false_and, and_false, ah_t_w, ah_m_w, ah_n_w, lst1_0, List.tail_cons, w32_i, zbd, lst2_0, mt_1036a hB.1, e, hk, Int.reduceAdd]
      exact b3
    have b1 : wpB (d + 4) 252 7 [some (.inr (.inr 1036)), some (.inr (.inl z)), none, some (.inl 1)] [] h' Q := by
      rw [q_252_7]
      simp (disch := omega) only [b_252_7, q_252_38, b_252_38, ↓w_iconst, ↓w_aload_n_0, ↓w_lload_n_1, ↓w_iload_n_3, ↓w_iinc_3, ↓w_getfield, ↓w_nop, ↓w_goto, ↓w_if_icmp_eq, ↓w_ifCond_ne, ↓w_if_icmp_ge, ↓w_invokevirtual_2, stw_0, stw_i, stw_l, stw_r, ofK0, ofK1, ofK2, lst1, lst2, lkill, kont_none, kont_some, Int.reduceToNat, List.length_cons, List.length_nil, Nat.reduceAdd, Nat.reduceLeDiff, Nat.zero_le, true_and, and_true, if_true, if_false, ne_eq, Int.reduceEq, Int.reduceNeg, not_false_eq_true, not_true_eq_false, ↓reduceIte, Int.reduceLT, Int.reduceLE, and_self, or_true, true_or, or_false, false_or, false_and, and_false, ah_t_w, ah_m_w, ah_n_w, lst1_0, List.tail_cons, w32_i, zbd, lst2_0, mt_1036a hB.1, e, hk, Int.reduceAdd]
      exact b2
    rcases hi with g | g | g <;> subst g
    · rw [q_252_7]
      simp (disch := omega) only [b_252_7, q_252_38, b_252_38, ↓w_iconst, ↓w_aload_n_0, ↓w_lload_n_1, ↓w_iload_n_3, ↓w_iinc_3, ↓w_getfield, ↓w_nop, ↓w_goto, ↓w_if_icmp_eq, ↓w_ifCond_ne, ↓w_if_icmp_ge, ↓w_invokevirtual_2, stw_0, stw_i, stw_l, stw_r, ofK0, ofK1, ofK2, lst1, lst2, lkill, kont_none, kont_some, Int.reduceToNat, List.length_cons, List.length_nil, Nat.reduceAdd, Nat.reduceLeDiff, Nat.zero_le, true_and, and_true, if_true, if_false, ne_eq, Int.reduceEq, Int.reduceNeg, not_false_eq_true, not_true_eq_false, ↓reduceIte, Int.reduceLT, Int.reduceLE, and_self, or_true, true_or, or_false, false_or, false_and, and_false, ah_t_w, ah_m_w, ah_n_w, lst1_0, List.tail_cons, w32_i, zbd, lst2_0, mt_1036a hB.1, e, hk, Int.reduceAdd]
      exact b1
    · exact b1
    · exact b2
  refine c_253 hX (fun h1 z kk pp e hB hO1 => ?_) (fun h1 q v e hX1 hO1 e44 => ?_)
  · rw [e] at hq0
    simp (disch := omega) only [b_252_0, ↓w_iconst, ↓w_aload_n_0, ↓w_istore_n_3, ↓w_lstore_n_1, ↓w_nop, ↓w_invokevirtual_0, stw_0, stw_i, stw_l, stw_r, ofK0, ofK1, ofK2, lst1, lst2, lkill, kont_none, kont_some, Int.reduceToNat, List.length_cons, List.length_nil, Nat.reduceAdd, Nat.reduceLeDiff, Nat.zero_le, true_and, and_true, if_true, if_false, ne_eq, Int.reduceEq, Int.reduceNeg, not_false_eq_true, not_true_eq_false, ↓reduceIte, Int.reduceLT, Int.reduceLE, and_self, or_true, true_or, or_false, false_or, false_and, and_false, ah_t_w, ah_m_w, ah_n_w, lst1_0, List.tail_cons, w32_i, zbd, lst2_0]
    exact bad h1 kk pp z 0 hB (Or.inl rfl) (fun z => hq0 h1 z kk pp rfl hB hO1)
  · rw [e] at hq0 hq1
    simp only at hq0 hq1
    have hL1 := LS_lx hL hX1 hO1 (fun r i w => w)
    have h51 := hX1.2.2.2.2.1
    have hM1 := hX1.1
    have hc0 := hC.1; have hc1 := hC.2.1; have hc2 := hC.2.2
    have c0 := fun {Q} => @c_255 (d + 3) h1 Q 0 v S hM1 hL1.2 (by decide) ⟨hc0.1, by omega⟩
    have c1 := fun {Q} => @c_255 (d + 3) h1 Q 1 v S hM1 hL1.2 (by decide) hc1
    have c2 := fun {Q} => @c_255 (d + 3) h1 Q 2 v S hM1 hL1.2 (by decide) ⟨hc2.1, by omega⟩
    have hB := BX_fail (k := 3) (p := zsk t n k) hM1 (by decide)
    have hOB : Off Wlx h (ah_w (ah_w h1 1036 5 3) 1036 6 (zsk t n k)) := Off_w (Off_w hO1 (by unfold Wlx; omega)) (by unfold Wlx; omega)
    have eB : zold S v = true → ∀ z, Q (.inl (some (.inr (.inl z)))) (ah_w (ah_w h1 1036 5 3) 1036 6 (zsk t n k)) := by
      intro g z
      rw [if_pos g] at hq0
      exact hq0 _ z 3 _ rfl hB hOB
    have eBb := hB.2.1
    simp (disch := omega) only [b_252_0, ↓w_iconst, ↓w_aload_n_0, ↓w_istore_n_3, ↓w_lstore_n_1, ↓w_nop, ↓w_invokevirtual_0, stw_0, stw_i, stw_l, stw_r, ofK0, ofK1, ofK2, lst1, lst2, lkill, kont_none, kont_some, Int.reduceToNat, List.length_cons, List.length_nil, Nat.reduceAdd, Nat.reduceLeDiff, Nat.zero_le, true_and, and_true, if_true, if_false, ne_eq, Int.reduceEq, Int.reduceNeg, not_false_eq_true, not_true_eq_false, ↓reduceIte, Int.reduceLT, Int.reduceLE, and_self, or_true, true_or, or_false, false_or, false_and, and_false, ah_t_w, ah_m_w, ah_n_w, lst1_0, List.tail_cons, w32_i, zbd, lst2_0]
    rw [q_252_7]
    by_cases g0 : zfind S 0 v (S 1072 0).toNat 0 = -1
    · by_cases g1 : zfind S 1 v (S 1072 1).toNat 0 = -1
      · by_cases g2 : zfind S 2 v (S 1072 2).toNat 0 = -1
        · have gz : zold S v = false := decide_eq_false (by simp [g0, g1, g2])
          rw [gz, if_neg (by decide)] at hq1
          simp (disch := omega) only [b_252_7, q_252_38, b_252_38, ↓w_iconst, ↓w_aload_n_0, ↓w_lload_n_1, ↓w_iload_n_3, ↓w_iinc_3, ↓w_getfield, ↓w_nop, ↓w_goto, ↓w_if_icmp_eq, ↓w_ifCond_ne, ↓w_if_icmp_ge, ↓w_invokevirtual_2, stw_0, stw_i, stw_l, stw_r, ofK0, ofK1, ofK2, lst1, lst2, lkill, kont_none, kont_some, Int.reduceToNat, List.length_cons, List.length_nil, Nat.reduceAdd, Nat.reduceLeDiff, Nat.zero_le, true_and, and_true, if_true, if_false, ne_eq, Int.reduceEq, Int.reduceNeg, not_false_eq_true, not_true_eq_false, ↓reduceIte, Int.reduceLT, Int.reduceLE, and_self, or_true, true_or, or_false, false_or, false_and, and_false, ah_t_w, ah_m_w, ah_n_w, lst1_0, List.tail_cons, w32_i, zbd, lst2_0, mt_1036a hM1, h51, c0, g0, Int.reduceAdd]
          rw [q_252_7]
          simp (disch := omega) only [b_252_7, q_252_38, b_252_38, ↓w_iconst, ↓w_aload_n_0, ↓w_lload_n_1, ↓w_iload_n_3, ↓w_iinc_3, ↓w_getfield, ↓w_nop, ↓w_goto, ↓w_if_icmp_eq, ↓w_ifCond_ne, ↓w_if_icmp_ge, ↓w_invokevirtual_2, stw_0, stw_i, stw_l, stw_r, ofK0, ofK1, ofK2, lst1, lst2, lkill, kont_none, kont_some, Int.reduceToNat, List.length_cons, List.length_nil, Nat.reduceAdd, Nat.reduceLeDiff, Nat.zero_le, true_and, and_true, if_true, if_false, ne_eq, Int.reduceEq, Int.reduceNeg, not_false_eq_true, not_true_eq_false, ↓reduceIte, Int.reduceLT, Int.reduceLE, and_self, or_true, true_or, or_false, false_or, false_and, and_false, ah_t_w, ah_m_w, ah_n_w, lst1_0, List.tail_cons, w32_i, zbd, lst2_0, mt_1036a hM1, h51, c1, g1, Int.reduceAdd]
          rw [q_252_7]
          simp (disch := omega) only [b_252_7, q_252_38, b_252_38, ↓w_iconst, ↓w_aload_n_0, ↓w_lload_n_1, ↓w_iload_n_3, ↓w_iinc_3, ↓w_getfield, ↓w_nop, ↓w_goto, ↓w_if_icmp_eq, ↓w_ifCond_ne, ↓w_if_icmp_ge, ↓w_invokevirtual_2, stw_0, stw_i, stw_l, stw_r, ofK0, ofK1, ofK2, lst1, lst2, lkill, kont_none, kont_some, Int.reduceToNat, List.length_cons, List.length_nil, Nat.reduceAdd, Nat.reduceLeDiff, Nat.zero_le, true_and, and_true, if_true, if_false, ne_eq, Int.reduceEq, Int.reduceNeg, not_false_eq_true, not_true_eq_false, ↓reduceIte, Int.reduceLT, Int.reduceLE, and_self, or_true, true_or, or_false, false_or, false_and, and_false, ah_t_w, ah_m_w, ah_n_w, lst1_0, List.tail_cons, w32_i, zbd, lst2_0, mt_1036a hM1, h51, c2, g2, Int.reduceAdd]
          rw [q_252_7]
          simp (disch := omega) only [b_252_7, q_252_44, b_252_44, ↓w_iconst, ↓w_aload_n_0, ↓w_lload_n_1, ↓w_iload_n_3, ↓w_getfield, ↓w_nop, ↓w_if_icmp_eq, ↓w_ifCond_ne, ↓w_if_icmp_ge, ↓w_lreturn, ↓w_invokevirtual_2, stw_0, stw_i, stw_l, stw_r, ofK0, ofK1, ofK2, lst1, lst2, lkill, kont_none, kont_some, Int.reduceToNat, List.length_cons, List.length_nil, Nat.reduceAdd, Nat.reduceLeDiff, Nat.zero_le, true_and, and_true, if_true, if_false, ne_eq, Int.reduceEq, Int.reduceNeg, not_false_eq_true, not_true_eq_false, ↓reduceIte, Int.reduceLT, Int.reduceLE, and_self, or_true, true_or, or_false, false_or, false_and, and_false, ah_t_w, ah_m_w, ah_n_w, lst1_0, List.tail_cons, w32_i, zbd, lst2_0, mt_1036a hM1]
          exact hq1 h1 q v rfl hL1 hO1
        · have gz : zold S v = true := decide_eq_true (Or.inr (Or.inr g2))
          simp (disch := omega) only [b_252_7, q_252_38, b_252_38, ↓w_iconst, ↓w_aload_n_0, ↓w_lload_n_1, ↓w_iload_n_3, ↓w_iinc_3, ↓w_getfield, ↓w_nop, ↓w_goto, ↓w_if_icmp_eq, ↓w_ifCond_ne, ↓w_if_icmp_ge, ↓w_invokevirtual_2, stw_0, stw_i, stw_l, stw_r, ofK0, ofK1, ofK2, lst1, lst2, lkill, kont_none, kont_some, Int.reduceToNat, List.length_cons, List.length_nil, Nat.reduceAdd, Nat.reduceLeDiff, Nat.zero_le, true_and, and_true, if_true, if_false, ne_eq, Int.reduceEq, Int.reduceNeg, not_false_eq_true, not_true_eq_false, ↓reduceIte, Int.reduceLT, Int.reduceLE, and_self, or_true, true_or, or_false, false_or, false_and, and_false, ah_t_w, ah_m_w, ah_n_w, lst1_0, List.tail_cons, w32_i, zbd, lst2_0, mt_1036a hM1, h51, c0, g0, Int.reduceAdd]
          rw [q_252_7]
          simp (disch := omega) only [b_252_7, q_252_38, b_252_38, ↓w_iconst, ↓w_aload_n_0, ↓w_lload_n_1, ↓w_iload_n_3, ↓w_iinc_3, ↓w_getfield, ↓w_nop, ↓w_goto, ↓w_if_icmp_eq, ↓w_ifCond_ne, ↓w_if_icmp_ge, ↓w_invokevirtual_2, stw_0, stw_i, stw_l, stw_r, ofK0, ofK1, ofK2, lst1, lst2, lkill, kont_none, kont_some, Int.reduceToNat, List.length_cons, List.length_nil, Nat.reduceAdd, Nat.reduceLeDiff, Nat.zero_le, true_and, and_true, if_true, if_false, ne_eq, Int.reduceEq, Int.reduceNeg, not_false_eq_true, not_true_eq_false, ↓reduceIte, Int.reduceLT, Int.reduceLE, and_self, or_true, true_or, or_false, false_or, false_and, and_false, ah_t_w, ah_m_w, ah_n_w, lst1_0, List.tail_cons, w32_i, zbd, lst2_0, mt_1036a hM1, h51, c1, g1, Int.reduceAdd]
          rw [q_252_7]
          simp (disch := omega) only [b_252_7, q_252_38, b_252_38, ↓w_iconst, ↓w_aload_n_0, ↓w_lload_n_1, ↓w_iload_n_3, ↓w_iinc_3, ↓w_getfield, ↓w_nop, ↓w_goto, ↓w_if_icmp_eq, ↓w_ifCond_ne, ↓w_if_icmp_ge, ↓w_invokevirtual_2, stw_0, stw_i, stw_l, stw_r, ofK0, ofK1, ofK2, lst1, lst2, lkill, kont_none, kont_some, Int.reduceToNat, List.length_cons, List.length_nil, Nat.reduceAdd, Nat.reduceLeDiff, Nat.zero_le, true_and, and_true, if_true, if_false, ne_eq, Int.reduceEq, Int.reduceNeg, not_false_eq_true, not_true_eq_false, ↓reduceIte, Int.reduceLT, Int.reduceLE, and_self, or_true, true_or, or_false, false_or, false_and, and_false, ah_t_w, ah_m_w, ah_n_w, lst1_0, List.tail_cons, w32_i, zbd, lst2_0, mt_1036a hM1, h51, c2, g2, e44, c_243 hM1 h51, Int.reduceAdd]
          rw [q_252_7]
          simp (disch := omega) only [b_252_7, q_252_44, b_252_44, ↓w_iconst, ↓w_aload_n_0, ↓w_lload_n_1, ↓w_iload_n_3, ↓w_getfield, ↓w_nop, ↓w_if_icmp_eq, ↓w_ifCond_ne, ↓w_if_icmp_ge, ↓w_lreturn, ↓w_invokevirtual_2, stw_0, stw_i, stw_l, stw_r, ofK0, ofK1, ofK2, lst1, lst2, lkill, kont_none, kont_some, Int.reduceToNat, List.length_cons, List.length_nil, Nat.reduceAdd, Nat.reduceLeDiff, Nat.zero_le, true_and, and_true, if_true, if_false, ne_eq, Int.reduceEq, Int.reduceNeg, not_false_eq_true, not_true_eq_false, ↓reduceIte, Int.reduceLT, Int.reduceLE, and_self, or_true, true_or, or_false, false_or, false_and, and_false, ah_t_w, ah_m_w, ah_n_w, lst1_0, List.tail_cons, w32_i, zbd, lst2_0, mt_1036a hM1]
          exact eB gz _
      · have gz : zold S v = true := decide_eq_true (Or.inr (Or.inl g1))
        simp (disch := omega) only [b_252_7, q_252_38, b_252_38, ↓w_iconst, ↓w_aload_n_0, ↓w_lload_n_1, ↓w_iload_n_3, ↓w_iinc_3, ↓w_getfield, ↓w_nop, ↓w_goto, ↓w_if_icmp_eq, ↓w_ifCond_ne, ↓w_if_icmp_ge, ↓w_invokevirtual_2, stw_0, stw_i, stw_l, stw_r, ofK0, ofK1, ofK2, lst1, lst2, lkill, kont_none, kont_some, Int.reduceToNat, List.length_cons, List.length_nil, Nat.reduceAdd, Nat.reduceLeDiff, Nat.zero_le, true_and, and_true, if_true, if_false, ne_eq, Int.reduceEq, Int.reduceNeg, not_false_eq_true, not_true_eq_false, ↓reduceIte, Int.reduceLT, Int.reduceLE, and_self, or_true, true_or, or_false, false_or, false_and, and_false, ah_t_w, ah_m_w, ah_n_w, lst1_0, List.tail_cons, w32_i, zbd, lst2_0, mt_1036a hM1, h51, c0, g0, Int.reduceAdd]
        rw [q_252_7]
        simp (disch := omega) only [b_252_7, q_252_38, b_252_38, ↓w_iconst, ↓w_aload_n_0, ↓w_lload_n_1, ↓w_iload_n_3, ↓w_iinc_3, ↓w_getfield, ↓w_nop, ↓w_goto, ↓w_if_icmp_eq, ↓w_ifCond_ne, ↓w_if_icmp_ge, ↓w_invokevirtual_2, stw_0, stw_i, stw_l, stw_r, ofK0, ofK1, ofK2, lst1, lst2, lkill, kont_none, kont_some, Int.reduceToNat, List.length_cons, List.length_nil, Nat.reduceAdd, Nat.reduceLeDiff, Nat.zero_le, true_and, and_true, if_true, if_false, ne_eq, Int.reduceEq, Int.reduceNeg, not_false_eq_true, not_true_eq_false, ↓reduceIte, Int.reduceLT, Int.reduceLE, and_self, or_true, true_or, or_false, false_or, false_and, and_false, ah_t_w, ah_m_w, ah_n_w, lst1_0, List.tail_cons, w32_i, zbd, lst2_0, mt_1036a hM1, h51, c1, g1, e44, c_243 hM1 h51, Int.reduceAdd]
        exact bad _ 3 _ v 2 hB (by omega) (eB gz)
    · have gz : zold S v = true := decide_eq_true (Or.inl g0)
      simp (disch := omega) only [b_252_7, q_252_38, b_252_38, ↓w_iconst, ↓w_aload_n_0, ↓w_lload_n_1, ↓w_iload_n_3, ↓w_iinc_3, ↓w_getfield, ↓w_nop, ↓w_goto, ↓w_if_icmp_eq, ↓w_ifCond_ne, ↓w_if_icmp_ge, ↓w_invokevirtual_2, stw_0, stw_i, stw_l, stw_r, ofK0, ofK1, ofK2, lst1, lst2, lkill, kont_none, kont_some, Int.reduceToNat, List.length_cons, List.length_nil, Nat.reduceAdd, Nat.reduceLeDiff, Nat.zero_le, true_and, and_true, if_true, if_false, ne_eq, Int.reduceEq, Int.reduceNeg, not_false_eq_true, not_true_eq_false, ↓reduceIte, Int.reduceLT, Int.reduceLE, and_self, or_true, true_or, or_false, false_or, false_and, and_false, ah_t_w, ah_m_w, ah_n_w, lst1_0, List.tail_cons, w32_i, zbd, lst2_0, mt_1036a hM1, h51, c0, g0, e44, c_243 hM1 h51, Int.reduceAdd]
      exact bad _ 3 _ v 1 hB (by omega) (eB gz)
theorem c_256 (hL : LSt t n k S h) (ha : 0 ≤ a ∧ a ≤ 2) (hc : 0 ≤ S 1072 a ∧ S 1072 a < 8) : wpC (d + 1) 256 [.inr (.inr 1036), .inl a, .inr (.inl v)] h Q ↔ Q (.inl (some (.inl (S 1072 a)))) (ah_w (ah_w h 1073 (8 * a + S 1072 a) v) 1072 a (S 1072 a + 1)) := by
  have e72 := LS_r hL (r := 1072) (by decide)
  have hM := hL.1.1
  have e3 : S 1072 a + 1 - 1 = S 1072 a := by omega
  apply CT_iff; apply CT_of; rw [wpC_B]; refine ⟨⟨Nat.zero_lt_succ _, Nat.le_of_ble_eq_true rfl⟩, ?_⟩; simp only [lent]
  simp (disch := omega) only [q_256_0, b_256_0, ↓w_iconst, ↓w_bipush, ↓w_aload_n_0, ↓w_iload_n_1, ↓w_lload_n_2, ↓w_dup2, ↓w_iadd, ↓w_isub, ↓w_imul, ↓w_getfield, ↓w_iaload, ↓w_iastore, ↓w_lastore, ↓w_ireturn0, stw_0, stw_i, stw_l, stw_r, ofK0, ofK1, ofK2, lst1, lst2, lkill, kont_none, kont_some, Int.reduceToNat, List.length_cons, List.length_nil, Nat.reduceAdd, Nat.reduceLeDiff, Nat.zero_le, true_and, and_true, if_true, if_false, ne_eq, Int.reduceEq, Int.reduceNeg, not_false_eq_true, not_true_eq_false, ↓reduceIte, Int.reduceLT, Int.reduceLE, and_self, or_true, true_or, or_false, false_or, false_and, and_false, ah_t_w, ah_m_w, ah_n_w, lst1_0, List.tail_cons, w32_i, zbd, lst2_0, mt_1036a hM, mt_1072a hM, mt_1072b hM, mf_45 hM, mt_1073a hM, mt_1073b hM, mf_46 hM, e72, e3]
theorem LS_add (hL : LSt t n k S h) : LSt t n k (zadd S a v) (ah_w (ah_w h 1073 (8 * a + S 1072 a) v) 1072 a (S 1072 a + 1)) := LS_w (LS_w hL (by decide)) (by decide)
theorem c_251 {rm bg : Int} (hL : LSt t n k S h) (ha : 0 ≤ a ∧ a ≤ 2) (hq0 : S 1072 a = rm → Q (.inl (some (.inl 1))) (ah_w (ah_w h 1036 5 5) 1036 6 bg)) (hq1 : S 1072 a ≠ rm → Q (.inl (some (.inl 0))) h) : wpC (d + 2) 251 [.inr (.inr 1036), .inl a, .inl rm, .inl bg] h Q := by
  have e72 := LS_r hL (r := 1072) (by decide)
  have hM := hL.1.1
  have h5 := hL.1.2.2.2.2.1
  rw [wpC_B]; refine ⟨⟨Nat.zero_lt_succ _, Nat.le_of_ble_eq_true rfl⟩, ?_⟩; simp only [lent]
  by_cases g : S 1072 a = rm
  · simp (disch := omega) only [q_251_0, b_251_0, q_251_23, b_251_23, q_251_34, b_251_34, q_251_35, b_251_35, ↓w_iconst, ↓w_aload_n_0, ↓w_iload_n_1, ↓w_iload_n_2, ↓w_iload_n_3, ↓w_getfield, ↓w_iaload, ↓w_nop, ↓w_goto, ↓w_ifCond_eq, ↓w_ifCond_ne, ↓w_if_icmp_ne, ↓w_ireturn1, ↓w_invokevirtual_2, stw_0, stw_i, stw_l, stw_r, ofK0, ofK1, ofK2, lst1, lst2, lkill, kont_none, kont_some, Int.reduceToNat, List.length_cons, List.length_nil, Nat.reduceAdd, Nat.reduceLeDiff, Nat.zero_le, true_and, and_true, if_true, if_false, ne_eq, Int.reduceEq, Int.reduceNeg, not_false_eq_true, not_true_eq_false, ↓reduceIte, Int.reduceLT, Int.reduceLE, and_self, or_true, true_or, or_false, false_or, false_and, and_false, ah_t_w, ah_m_w, ah_n_w, lst1_0, List.tail_cons, w32_i, zbd, lst2_0, mt_1036a hM, mt_1072a hM, mt_1072b hM, mf_45 hM, h5, e72, g, c_243 hM h5]
    exact hq0 g
  · simp (disch := omega) only [q_251_0, b_251_0, q_251_23, b_251_23, q_251_34, b_251_34, q_251_35, b_251_35, ↓w_iconst, ↓w_aload_n_0, ↓w_iload_n_1, ↓w_iload_n_2, ↓w_iload_n_3, ↓w_getfield, ↓w_iaload, ↓w_nop, ↓w_goto, ↓w_ifCond_eq, ↓w_ifCond_ne, ↓w_if_icmp_ne, ↓w_ireturn1, ↓w_invokevirtual_2, stw_0, stw_i, stw_l, stw_r, ofK0, ofK1, ofK2, lst1, lst2, lkill, kont_none, kont_some, Int.reduceToNat, List.length_cons, List.length_nil, Nat.reduceAdd, Nat.reduceLeDiff, Nat.zero_le, true_and, and_true, if_true, if_false, ne_eq, Int.reduceEq, Int.reduceNeg, not_false_eq_true, not_true_eq_false, ↓reduceIte, Int.reduceLT, Int.reduceLE, and_self, or_true, true_or, or_false, false_or, false_and, and_false, ah_t_w, ah_m_w, ah_n_w, lst1_0, List.tail_cons, w32_i, zbd, lst2_0, mt_1036a hM, mt_1072a hM, mt_1072b hM, mf_45 hM, h5, e72, g]
    exact hq1 g
end BRD
