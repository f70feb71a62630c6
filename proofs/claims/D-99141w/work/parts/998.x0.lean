/-! ===== X: what stays, lists, small methods ===== -/
def isS (s : Int) : Prop := s = 25 ∨ s = 70 ∨ (120 ≤ s ∧ s < 1020 ∧ (s - 120) % 45 = 0)
def isV (v : Int) : Prop := v = 19 ∨ v = 22 ∨ (1020 ≤ v ∧ v < 1035 ∧ (v - 1020) % 3 = 0)
def xTL : List (Int × Int × Int) := (1, 1, 0) :: (10, -2, 1600) :: (11, 4, 0) :: (12, 5, 0) :: (13, 6, 0) :: (14, -4, 11) :: (15, 6, 0) :: (16, -4, 11) :: (17, -1, 6) :: (18, -11, 5) :: (115, -4, 25) :: (116, -1, 16) :: (117, -1, 16) :: (118, -1, 8) :: (119, -12, 20) :: (1035, -2, 32) :: []
def xFL : List (Int × Int × Int) := (1, 1, 10) :: (1, 5, 11) :: (1, 6, 13) :: (1, 7, 15) :: (1, 8, 17) :: (1, 9, 18) :: (1, 10, 19) :: (1, 11, 22) :: (1, 12, 25) :: (1, 13, 70) :: (1, 14, 115) :: (1, 15, 116) :: (1, 16, 117) :: (1, 18, 118) :: (1, 19, 119) :: (1, 23, 1035) :: (11, 0, 12) :: (11, 7, 1) :: (13, 0, 14) :: (15, 0, 16) :: (18, 0, 1020) :: (18, 1, 1023) :: (18, 2, 1026) :: (18, 3, 1029) :: (18, 4, 1032) :: []
def XSf (s : Int) (h : AH) : Prop := (ah_t h s = (8, 0) ∧ ah_t h (s + 1) = (-1, 8) ∧ ah_t h (s + 2) = (-1, 25) ∧ ah_t h (s + 3) = (-1, 6) ∧ ah_t h (s + 4) = (-13, 40) ∧ ∀ j, 0 ≤ j → j < 40 → ah_t h (s + 5 + j) = (-1, 5)) ∧ ah_m h s 3 = s + 1 ∧ ah_m h s 4 = s + 2 ∧ ah_m h s 5 = s + 3 ∧ ah_m h s 6 = s + 4 ∧ ah_m h s 11 = 1
def XVf (v : Int) (h : AH) : Prop := (ah_t h v = (7, 0) ∧ ah_t h (v + 1) = (-1, 200) ∧ ah_t h (v + 2) = (-1, 200)) ∧ ah_m h v 0 = v + 1 ∧ ah_m h v 1 = v + 2
/-- the facts of X that stay -/
def XI (h : AH) : Prop := (∀ p ∈ xTL, ah_t h p.1 = p.2) ∧ (∀ p ∈ xFL, ah_m h p.1 p.2.1 = p.2.2) ∧ (∀ s, isS s → XSf s h) ∧ ∀ v, isV v → XVf v h
def fix (r i : Int) : Prop := (r = 1 ∧ (i = 1 ∨ (5 ≤ i ∧ i ≤ 16) ∨ i = 18 ∨ i = 19 ∨ i = 23)) ∨ (r = 11 ∧ (i = 0 ∨ i = 7)) ∨ ((r = 13 ∨ r = 15) ∧ i = 0) ∨ r = 18 ∨ (isS r ∧ ((3 ≤ i ∧ i ≤ 6) ∨ i = 11)) ∨ (isV r ∧ (i = 0 ∨ i = 1))
/-- rows of boards -/
def BRr (r : Int) : Prop := (2 ≤ r ∧ r ≤ 9) ∨ 1121 ≤ r
def XL (h : AH) (l n c : Int) : Prop := (BRr l ∧ ah_t h l = (3, 0) ∧ ah_m h l 2 = n) ∧ (BRr (ah_m h l 1) ∧ (ah_t h (ah_m h l 1)).1 = -10 ∧ n ≤ (ah_t h (ah_m h l 1)).2) ∧ ∀ i, 0 ≤ i → i < n → BRr (ah_m h (ah_m h l 1) i) ∧ ah_t h (ah_m h (ah_m h l 1) i) = (c, 0)
def xel (h : AH) (l i : Int) : Int := ah_m h (ah_m h l 1) i
def xb (h : AH) : Int := ah_m h 1 0
def xlk (h : AH) : Int := ah_m h (xb h) 5
def xki (h : AH) (k : Int) : Int := xel h (ah_m h (xb h) 6) k
def xma (h : AH) (m : Int) : Int := xel h (ah_m h (xb h) 7) m
def xfi (h : AH) (f : Int) : Int := xel h (ah_m h (xb h) 8) f
/-- X's board tells what M's tells -/
def XB (T : Int → Int → Int) (h : AH) : Prop := (BRr (xb h) ∧ ah_t h (xb h) = (2, 0)) ∧ (ah_m h (xb h) 1 = T 1074 4 ∧ ah_m h (xb h) 2 = T 1074 5 ∧ ah_m h (xb h) 3 = T 1079 2 ∧ ah_m h (xb h) 4 = T 1079 3)
  ∧ (BRr (xlk h) ∧ ah_t h (xlk h) = (-1, 2) ∧ ah_m h (xlk h) 0 = T 1074 6 ∧ ah_m h (xlk h) 1 = T 1074 7)
  ∧ (XL h (ah_m h (xb h) 6) (T 1072 3) 12 ∧ XL h (ah_m h (xb h) 7) (T 1072 4) 13 ∧ XL h (ah_m h (xb h) 8) (T 1072 5) 14)
  ∧ (∀ k, 0 ≤ k → k < T 1072 3 → ah_m h (xki h k) 1 = T 1075 (20 + 4 * k) ∧ ah_m h (xki h k) 2 = T 1075 (21 + 4 * k) ∧ ah_m h (xki h k) 3 = T 1075 (22 + 4 * k) ∧ ah_m h (xki h k) 4 = T 1075 (23 + 4 * k))
  ∧ (∀ m, 0 ≤ m → m < T 1072 4 → ah_m h (xma h m) 1 = T 1076 (16 + 2 * m) ∧ ah_m h (xma h m) 2 = T 1076 (17 + 2 * m))
  ∧ (∀ f, 0 ≤ f → f < T 1072 5 → ah_m h (xfi h f) 1 = T 1078 (18 + 3 * f) ∧ ah_m h (xfi h f) 2 = T 1078 (19 + 3 * f))
section X0
variable {W : Int → Int → Prop} {d : Nat} {h h' h0 : AH} {Q : QQ} {x y z m k s l w a b c v n p r o i : Int} {S T T' : Int → Int → Int} {t nw : Int → Int}
set_option maxHeartbeats 4000000
theorem xFL_f : ∀ p ∈ xFL, fix p.1 p.2.1 := by unfold fix isS isV; decide
theorem XI_off (hI : XI h) (hO : Off W h h') (hW : ∀ r i, W r i → ¬ fix r i) : XI h' := by
  have ht : ∀ r, ah_t h' r = ah_t h r := fun r => by unfold ah_t; rw [hO.1]
  have hm : ∀ r i, fix r i → ah_m h' r i = ah_m h r i := fun r i f => hO.2 r i (fun w => hW r i w f)
  refine ⟨fun p q => by rw [ht]; exact hI.1 p q, fun p q => by rw [hm _ _ (xFL_f p q)]; exact hI.2.1 p q, fun s hs => ?_, fun v hv => ?_⟩
  · have := hI.2.2.1 s hs
    unfold XSf at this ⊢
    simp only [ht]
    rw [hm s 3 (by unfold fix; simp [hs]), hm s 4 (by unfold fix; simp [hs]), hm s 5 (by unfold fix; simp [hs]), hm s 6 (by unfold fix; simp [hs]), hm s 11 (by unfold fix; simp [hs])]
    exact this
  · have := hI.2.2.2 v hv
    unfold XVf at this ⊢
    simp only [ht]
    rw [hm v 0 (by unfold fix; simp [hv]), hm v 1 (by unfold fix; simp [hv])]
    exact this
theorem XB_off (hB : XB T h) (hO : Off W h h') (hW : ∀ r i, W r i → ¬ BRr r ∧ ¬ (r = 1 ∧ i = 0)) : XB T h' ∧ xb h' = xb h ∧ xlk h' = xlk h ∧ (∀ k, 0 ≤ k → k < T 1072 3 → xki h' k = xki h k) ∧ (∀ k, 0 ≤ k → k < T 1072 4 → xma h' k = xma h k) ∧ (∀ k, 0 ≤ k → k < T 1072 5 → xfi h' k = xfi h k) := by
  have ht : ∀ r, ah_t h' r = ah_t h r := fun r => by unfold ah_t; rw [hO.1]
  have hm : ∀ r i, BRr r → ah_m h' r i = ah_m h r i := fun r i f => hO.2 r i (fun w => (hW r i w).1 f)
  have e0 : xb h' = xb h := hO.2 1 0 (fun w => (hW _ _ w).2 ⟨rfl, rfl⟩)
  obtain ⟨b1, b2, b3, b4, b5, b6, b7⟩ := hB
  have e5 : ∀ i, ah_m h' (xb h') i = ah_m h (xb h) i := fun i => by rw [e0]; exact hm _ _ b1.1
  have elk : xlk h' = xlk h := e5 5
  have el : ∀ l n c, XL h l n c → XL h' l n c ∧ ∀ i, xel h' l i = xel h l i := fun l n c q => by
    have q1 : ah_m h' l 1 = ah_m h l 1 := hm _ _ q.1.1
    have q2 : ∀ i, xel h' l i = xel h l i := fun i => by unfold xel; rw [q1]; exact hm _ _ q.2.1.1
    refine ⟨?_, q2⟩
    unfold XL
    rw [q1]
    simp only [ht]
    refine ⟨⟨q.1.1, q.1.2.1, by rw [hm _ _ q.1.1]; exact q.1.2.2⟩, q.2.1, fun i a b => ?_⟩
    rw [hm _ _ q.2.1.1]; exact q.2.2 i a b
  have ek := el _ _ _ b4.1; have em := el _ _ _ b4.2.1; have ef := el _ _ _ b4.2.2
  have fk : ∀ k, xki h' k = xki h k := fun k => by unfold xki; rw [e5]; exact ek.2 k
  have fm : ∀ k, xma h' k = xma h k := fun k => by unfold xma; rw [e5]; exact em.2 k
  have ff : ∀ k, xfi h' k = xfi h k := fun k => by unfold xfi; rw [e5]; exact ef.2 k
  refine ⟨⟨⟨by rw [e0]; exact b1.1, by rw [e0, ht]; exact b1.2⟩, by rw [e5, e5, e5, e5]; exact b2, ?_, ⟨by rw [e5]; exact ek.1, by rw [e5]; exact em.1, by rw [e5]; exact ef.1⟩, fun k p q => ?_, fun k p q => ?_, fun k p q => ?_⟩, e0, elk, fun k _ _ => fk k, fun k _ _ => fm k, fun k _ _ => ff k⟩
  · rw [elk, ht, hm _ _ b3.1, hm _ _ b3.1]; exact b3
  · have : BRr (xki h k) := (b4.1.2.2 k p q).1
    rw [fk, hm _ _ this, hm _ _ this, hm _ _ this, hm _ _ this]; exact b5 k p q
  · have : BRr (xma h k) := (b4.2.1.2.2 k p q).1
    rw [fm, hm _ _ this, hm _ _ this]; exact b6 k p q
  · have : BRr (xfi h k) := (b4.2.2.2.2 k p q).1
    rw [ff, hm _ _ this, hm _ _ this]; exact b7 k p q
theorem XB_hi (hB : XB T h) (e : HI T T') : XB T' h := by
  obtain ⟨b1, b2, b3, b4, b5, b6, b7⟩ := hB
  have l : ∀ r i, 1072 ≤ r → r ≤ 1082 → ¬ LO r i → T' r i = T r i := e
  unfold XB
  rw [l 1072 3 (by decide) (by decide) (by unfold LO; omega), l 1072 4 (by decide) (by decide) (by unfold LO; omega), l 1072 5 (by decide) (by decide) (by unfold LO; omega), l 1074 4 (by decide) (by decide) (by unfold LO; omega), l 1074 5 (by decide) (by decide) (by unfold LO; omega), l 1074 6 (by decide) (by decide) (by unfold LO; omega), l 1074 7 (by decide) (by decide) (by unfold LO; omega), l 1079 2 (by decide) (by decide) (by unfold LO; omega), l 1079 3 (by decide) (by decide) (by unfold LO; omega)]
  refine ⟨b1, b2, b3, b4, fun m p q => ?_, fun m p q => ?_, fun m p q => ?_⟩
  · rw [l 1075 _ (by decide) (by decide) (by unfold LO; omega), l 1075 _ (by decide) (by decide) (by unfold LO; omega), l 1075 _ (by decide) (by decide) (by unfold LO; omega), l 1075 _ (by decide) (by decide) (by unfold LO; omega)]; exact b5 m p q
  · rw [l 1076 _ (by decide) (by decide) (by unfold LO; omega), l 1076 _ (by decide) (by decide) (by unfold LO; omega)]; exact b6 m p q
  · rw [l 1078 _ (by decide) (by decide) (by unfold LO; omega), l 1078 _ (by decide) (by decide) (by unfold LO; omega)]; exact b7 m p q
theorem c_39 (hL : XL h l n c) : wpC (d + 1) 39 [.inr (.inr l)] h Q ↔ Q (.inl (some (.inl n))) h := by
  have t1 : (ah_t h l).1 = 3 := by rw [hL.1.2.1]
  have t2 := hL.1.2.2
  apply CT_iff; apply CT_of; rw [wpC_B]; refine ⟨⟨Nat.zero_lt_succ _, Nat.le_of_ble_eq_true rfl⟩, ?_⟩; simp only [lent]
  simp (disch := omega) only [q_39_0, b_39_0, ↓w_aload_n_0, ↓w_getfield, ↓w_ireturn0, stw_0, stw_i, stw_l, stw_r, ofK0, ofK1, ofK2, lst1, lst2, lkill, kont_none, kont_some, Int.reduceToNat, List.length_cons, List.length_nil, Nat.reduceAdd, Nat.reduceLeDiff, Nat.zero_le, true_and, and_true, if_true, if_false, ne_eq, Int.reduceEq, Int.reduceNeg, not_false_eq_true, not_true_eq_false, ↓reduceIte, Int.reduceLT, Int.reduceLE, and_self, or_true, true_or, or_false, false_or, false_and, and_false, ah_t_w, ah_m_w, ah_n_w, lst1_0, List.tail_cons, w32_i, zbd, lst2_0, t1, t2]
theorem c_51 (h0 : 0 ≤ x) (h1 : x < y) : wpC (d + 1) 51 [.inl x, .inl y, .inr (.inr z)] h Q ↔ Q (.inl (some (.inl x))) h := by
  apply CT_iff; apply CT_of; rw [wpC_B]; refine ⟨⟨Nat.zero_lt_succ _, Nat.le_of_ble_eq_true rfl⟩, ?_⟩; simp only [lent]
  have g : ¬ x < 0 := by omega
  simp (disch := omega) only [q_51_0, b_51_0, q_51_16, b_51_16, ↓w_iload_n_0, ↓w_iload_n_1, ↓w_nop, ↓w_ifCond_lt, ↓w_if_icmp_lt, ↓w_ireturn0, stw_0, stw_i, stw_l, stw_r, ofK0, ofK1, ofK2, lst1, lst2, lkill, kont_none, kont_some, Int.reduceToNat, List.length_cons, List.length_nil, Nat.reduceAdd, Nat.reduceLeDiff, Nat.zero_le, true_and, and_true, if_true, if_false, ne_eq, Int.reduceEq, Int.reduceNeg, not_false_eq_true, not_true_eq_false, ↓reduceIte, Int.reduceLT, Int.reduceLE, and_self, or_true, true_or, or_false, false_or, false_and, and_false, ah_t_w, ah_m_w, ah_n_w, lst1_0, List.tail_cons, w32_i, zbd, lst2_0, g, h1]
theorem c_50 (h0 : 0 ≤ x) (h1 : x < y) : wpC (d + 2) 50 [.inl x, .inl y] h Q ↔ Q (.inl (some (.inl x))) h := by
  apply CT_iff; apply CT_of; rw [wpC_B]; refine ⟨⟨Nat.zero_lt_succ _, Nat.le_of_ble_eq_true rfl⟩, ?_⟩; simp only [lent]
  simp (disch := omega) only [q_50_0, b_50_0, ↓w_aconst_null, ↓w_iload_n_0, ↓w_iload_n_1, ↓w_ireturn0, ↓w_invokestatic_3, stw_0, stw_i, stw_l, stw_r, ofK0, ofK1, ofK2, lst1, lst2, lkill, kont_none, kont_some, Int.reduceToNat, List.length_cons, List.length_nil, Nat.reduceAdd, Nat.reduceLeDiff, Nat.zero_le, true_and, and_true, if_true, if_false, ne_eq, Int.reduceEq, Int.reduceNeg, not_false_eq_true, not_true_eq_false, ↓reduceIte, Int.reduceLT, Int.reduceLE, and_self, or_true, true_or, or_false, false_or, false_and, and_false, ah_t_w, ah_m_w, ah_n_w, lst1_0, List.tail_cons, w32_i, zbd, lst2_0, c_51 h0 h1]
theorem c_41 (hL : XL h l n c) (h0 : 0 ≤ x) (h1 : x < n) : wpC (d + 1) 41 [.inr (.inr l), .inl x] h Q ↔ Q (.inl (some (.inr (.inr (xel h l x))))) h := by
  have t1 : (ah_t h l).1 = 3 := by rw [hL.1.2.1]
  have t2 := hL.2.1.2.1
  have t3 : x < (ah_t h (ah_m h l 1)).2 := by have := hL.2.1.2.2; omega
  unfold xel
  apply CT_iff; apply CT_of; rw [wpC_B]; refine ⟨⟨Nat.zero_lt_succ _, Nat.le_of_ble_eq_true rfl⟩, ?_⟩; simp only [lent]
  simp (disch := omega) only [q_41_0, b_41_0, ↓w_aload_n_0, ↓w_iload_n_1, ↓w_getfield, ↓w_aaload, ↓w_areturn, stw_0, stw_i, stw_l, stw_r, ofK0, ofK1, ofK2, lst1, lst2, lkill, kont_none, kont_some, Int.reduceToNat, List.length_cons, List.length_nil, Nat.reduceAdd, Nat.reduceLeDiff, Nat.zero_le, true_and, and_true, if_true, if_false, ne_eq, Int.reduceEq, Int.reduceNeg, not_false_eq_true, not_true_eq_false, ↓reduceIte, Int.reduceLT, Int.reduceLE, and_self, or_true, true_or, or_false, false_or, false_and, and_false, ah_t_w, ah_m_w, ah_n_w, lst1_0, List.tail_cons, w32_i, zbd, lst2_0, t1, t2, h0, t3]
theorem c_40 (hL : XL h l n c) (h0 : 0 ≤ x) (h1 : x < n) : wpC (d + 3) 40 [.inr (.inr l), .inl x] h Q ↔ Q (.inl (some (.inr (.inr (xel h l x))))) h := by
  have t1 : (ah_t h l).1 = 3 := by rw [hL.1.2.1]
  have t2 := hL.1.2.2
  apply CT_iff; apply CT_of; rw [wpC_B]; refine ⟨⟨Nat.zero_lt_succ _, Nat.le_of_ble_eq_true rfl⟩, ?_⟩; simp only [lent]
  simp (disch := omega) only [q_40_0, b_40_0, ↓w_aload_n_0, ↓w_iload_n_1, ↓w_pop_i, ↓w_pop_a, ↓w_getfield, ↓w_areturn, ↓w_invokevirtual_1, ↓w_invokestatic_2, stw_0, stw_i, stw_l, stw_r, ofK0, ofK1, ofK2, lst1, lst2, lkill, kont_none, kont_some, Int.reduceToNat, List.length_cons, List.length_nil, Nat.reduceAdd, Nat.reduceLeDiff, Nat.zero_le, true_and, and_true, if_true, if_false, ne_eq, Int.reduceEq, Int.reduceNeg, not_false_eq_true, not_true_eq_false, ↓reduceIte, Int.reduceLT, Int.reduceLE, and_self, or_true, true_or, or_false, false_or, false_and, and_false, ah_t_w, ah_m_w, ah_n_w, lst1_0, List.tail_cons, w32_i, zbd, lst2_0, t1, t2, c_50 h0 h1, c_41 hL h0 h1]
end X0
