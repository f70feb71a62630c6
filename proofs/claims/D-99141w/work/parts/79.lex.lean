/-! ===== words on the tape; M's reading of them ===== -/
def zB (t : Int → Int) (n k : Int) : Int := if 0 ≤ k ∧ k < n then t k else -1
def zL (c : Int) : Bool := decide (97 ≤ c ∧ c ≤ 122)
def zD (c : Int) : Bool := decide (48 ≤ c ∧ c ≤ 57)
def zbk (c : Int) : Bool := decide (c = 32 ∨ c = 10)
def zskf (t : Int → Int) (n : Int) : Nat → Int → Int
  | 0, k => k
  | j + 1, k => if zbk (zB t n k) = true then zskf t n j (k + 1) else k
/-- behind blanks -/
def zsk (t : Int → Int) (n k : Int) : Int := zskf t n (n - k).toNat k
def zwf (t : Int → Int) (n : Int) : Nat → Int → Int
  | 0, k => k
  | j + 1, k => if zL (zB t n k) = true then zwf t n j (k + 1) else k
/-- behind letters -/
def zwe (t : Int → Int) (n k : Int) : Int := zwf t n (n - k).toNat k
def zwq (t : Int → Int) : Int → List Int → Bool
  | _, [] => true
  | k, c :: W => if t k = c then zwq t (k + 1) W else false
/-- what stands right behind a letter or digit -/
def zpd (t : Int → Int) (n k : Int) : Bool := zL (zB t n (k - 1)) || zD (zB t n (k - 1))
/-- a word can begin here -/
def zwb (t : Int → Int) (n k : Int) : Bool := zL (zB t n k) && !zpd t n k
def zhw (t : Int → Int) (n k : Int) (W : List Int) : Bool := zwb t n k && (decide (zwe t n k - k = W.length) && zwq t k W)
/-- M reads: the tape, its end, where; not at fault -/
def LX (t : Int → Int) (n k : Int) (h : AH) : Prop := MI h ∧ ah_m h 1037 = t ∧ ah_m h 1036 3 = n ∧ ah_m h 1036 2 = k ∧ ah_m h 1036 5 = 0 ∧ (0 ≤ k ∧ k ≤ n ∧ n ≤ 1600 ∧ ah_m h 1036 6 = -1) ∧ TPV t n ∧ (ah_m h 1036 4 ≤ k ∧ (ah_m h 1036 4 = k ↔ zpd t n k = true))
def WB (W : List Int) (r : Int) (h : AH) : Prop := (ah_t h r).1 = -3 ∧ (ah_t h r).2 = W.length ∧ ∀ i : Nat, i < W.length → ah_m h r i = W.getD i 0
def Wat (r i : Int) : Prop := r = 1036 ∧ i = 2
section LEX
variable {d : Nat} {h h0 : AH} {Q : QQ} {x y z m k s l w a b c v n p r : Int} {T : Int → Int → Int} {nw g t sr : Int → Int} {W : List Int}
set_option maxHeartbeats 2000000
theorem zB_i (h0 : 0 ≤ k) (h1 : k < n) : zB t n k = t k := if_pos ⟨h0, h1⟩
theorem zB_o (h1 : n ≤ k) : zB t n k = -1 := if_neg (by omega)
theorem zB_b (hv : TPV t n) : -1 ≤ zB t n k ∧ zB t n k ≤ 255 := by
  unfold zB; split
  · rename_i e; have := hv.2 k e.1 e.2; omega
  · omega
theorem mCL_t : ∀ p ∈ mCL, mTL.getD (p.1 - 1036).toNat (0, 0) = (-3, (p.2.length : Int)) ∧ 1036 ≤ p.1 ∧ p.1 < 1121 := by decide
theorem WB_of (hM : MI h) {q : Int × List Int} (hp : q ∈ mCL) : WB q.2 q.1 h := by
  have e := mCL_t q hp
  have h1 := hM.1 (q.1 - 1036).toNat (by omega)
  have e2 : (1036 : Int) + ((q.1 - 1036).toNat : Int) = q.1 := by omega
  rw [e2, e.1] at h1
  exact ⟨by rw [h1], by rw [h1], hM.2.2 q hp⟩
theorem c_242 : wpC (d + 1) 242 [.inl c] h Q ↔ Q (.inl (some (.inl (zb (zL c))))) h := by
  unfold zL
  apply CT_iff; apply CT_of; rw [wpC_B]; refine ⟨⟨Nat.zero_lt_succ _, Nat.le_of_ble_eq_true rfl⟩, ?_⟩; simp only [lent]
  by_cases e1 : c < 97
  · have e2 : decide (97 ≤ c ∧ c ≤ 122) = false := decide_eq_false (by omega)
    simp (disch := omega) only [q_242_0, b_242_0, q_242_16, b_242_16, q_242_17, b_242_17, ↓w_iconst, ↓w_bipush, ↓w_iload_n_0, ↓w_nop, ↓w_goto, ↓w_if_icmp_lt, ↓w_if_icmp_gt, ↓w_ireturn1, stw_0, stw_i, stw_l, stw_r, ofK0, ofK1, ofK2, lst1, lst2, lkill, kont_none, kont_some, Int.reduceToNat, List.length_cons, List.length_nil, Nat.reduceAdd, Nat.reduceLeDiff, Nat.zero_le, true_and, and_true, if_true, if_false, ne_eq, Int.reduceEq, Int.reduceNeg, not_false_eq_true, not_true_eq_false, ↓reduceIte, Int.reduceLT, Int.reduceLE, and_self, or_true, true_or, or_false, false_or, false_and, and_false, ah_t_w, ah_m_w, ah_n_w, lst1_0, List.tail_cons, w32_i, zbd, lst2_0, e1, e2, zb_f]
  · by_cases e3 : 122 < c
    · have e2 : decide (97 ≤ c ∧ c ≤ 122) = false := decide_eq_false (by omega)
      simp (disch := omega) only [q_242_0, b_242_0, q_242_16, b_242_16, q_242_17, b_242_17, ↓w_iconst, ↓w_bipush, ↓w_iload_n_0, ↓w_nop, ↓w_goto, ↓w_if_icmp_lt, ↓w_if_icmp_gt, ↓w_ireturn1, stw_0, stw_i, stw_l, stw_r, ofK0, ofK1, ofK2, lst1, lst2, lkill, kont_none, kont_some, Int.reduceToNat, List.length_cons, List.length_nil, Nat.reduceAdd, Nat.reduceLeDiff, Nat.zero_le, true_and, and_true, if_true, if_false, ne_eq, Int.reduceEq, Int.reduceNeg, not_false_eq_true, not_true_eq_false, ↓reduceIte, Int.reduceLT, Int.reduceLE, and_self, or_true, true_or, or_false, false_or, false_and, and_false, ah_t_w, ah_m_w, ah_n_w, lst1_0, List.tail_cons, w32_i, zbd, lst2_0, e1, e2, e3, zb_f]
    · have e2 : decide (97 ≤ c ∧ c ≤ 122) = true := decide_eq_true (by omega)
      simp (disch := omega) only [q_242_0, b_242_0, q_242_16, b_242_16, q_242_17, b_242_17, ↓w_iconst, ↓w_bipush, ↓w_iload_n_0, ↓w_nop, ↓w_goto, ↓w_if_icmp_lt, ↓w_if_icmp_gt, ↓w_ireturn1, stw_0, stw_i, stw_l, stw_r, ofK0, ofK1, ofK2, lst1, lst2, lkill, kont_none, kont_some, Int.reduceToNat, List.length_cons, List.length_nil, Nat.reduceAdd, Nat.reduceLeDiff, Nat.zero_le, true_and, and_true, if_true, if_false, ne_eq, Int.reduceEq, Int.reduceNeg, not_false_eq_true, not_true_eq_false, ↓reduceIte, Int.reduceLT, Int.reduceLE, and_self, or_true, true_or, or_false, false_or, false_and, and_false, ah_t_w, ah_m_w, ah_n_w, lst1_0, List.tail_cons, w32_i, zbd, lst2_0, e1, e2, e3, zb_t]
theorem c_245 : wpC (d + 1) 245 [.inl c] h Q ↔ Q (.inl (some (.inl (zb (zD c))))) h := by
  unfold zD
  apply CT_iff; apply CT_of; rw [wpC_B]; refine ⟨⟨Nat.zero_lt_succ _, Nat.le_of_ble_eq_true rfl⟩, ?_⟩; simp only [lent]
  by_cases e1 : c < 48
  · have e2 : decide (48 ≤ c ∧ c ≤ 57) = false := decide_eq_false (by omega)
    simp (disch := omega) only [q_245_0, b_245_0, q_245_16, b_245_16, q_245_17, b_245_17, ↓w_iconst, ↓w_bipush, ↓w_iload_n_0, ↓w_nop, ↓w_goto, ↓w_if_icmp_lt, ↓w_if_icmp_gt, ↓w_ireturn1, stw_0, stw_i, stw_l, stw_r, ofK0, ofK1, ofK2, lst1, lst2, lkill, kont_none, kont_some, Int.reduceToNat, List.length_cons, List.length_nil, Nat.reduceAdd, Nat.reduceLeDiff, Nat.zero_le, true_and, and_true, if_true, if_false, ne_eq, Int.reduceEq, Int.reduceNeg, not_false_eq_true, not_true_eq_false, ↓reduceIte, Int.reduceLT, Int.reduceLE, and_self, or_true, true_or, or_false, false_or, false_and, and_false, ah_t_w, ah_m_w, ah_n_w, lst1_0, List.tail_cons, w32_i, zbd, lst2_0, e1, e2, zb_f]
  · by_cases e3 : 57 < c
    · have e2 : decide (48 ≤ c ∧ c ≤ 57) = false := decide_eq_false (by omega)
      simp (disch := omega) only [q_245_0, b_245_0, q_245_16, b_245_16, q_245_17, b_245_17, ↓w_iconst, ↓w_bipush, ↓w_iload_n_0, ↓w_nop, ↓w_goto, ↓w_if_icmp_lt, ↓w_if_icmp_gt, ↓w_ireturn1, stw_0, stw_i, stw_l, stw_r, ofK0, ofK1, ofK2, lst1, lst2, lkill, kont_none, kont_some, Int.reduceToNat, List.length_cons, List.length_nil, Nat.reduceAdd, Nat.reduceLeDiff, Nat.zero_le, true_and, and_true, if_true, if_false, ne_eq, Int.reduceEq, Int.reduceNeg, not_false_eq_true, not_true_eq_false, ↓reduceIte, Int.reduceLT, Int.reduceLE, and_self, or_true, true_or, or_false, false_or, false_and, and_false, ah_t_w, ah_m_w, ah_n_w, lst1_0, List.tail_cons, w32_i, zbd, lst2_0, e1, e2, e3, zb_f]
    · have e2 : decide (48 ≤ c ∧ c ≤ 57) = true := decide_eq_true (by omega)
      simp (disch := omega) only [q_245_0, b_245_0, q_245_16, b_245_16, q_245_17, b_245_17, ↓w_iconst, ↓w_bipush, ↓w_iload_n_0, ↓w_nop, ↓w_goto, ↓w_if_icmp_lt, ↓w_if_icmp_gt, ↓w_ireturn1, stw_0, stw_i, stw_l, stw_r, ofK0, ofK1, ofK2, lst1, lst2, lkill, kont_none, kont_some, Int.reduceToNat, List.length_cons, List.length_nil, Nat.reduceAdd, Nat.reduceLeDiff, Nat.zero_le, true_and, and_true, if_true, if_false, ne_eq, Int.reduceEq, Int.reduceNeg, not_false_eq_true, not_true_eq_false, ↓reduceIte, Int.reduceLT, Int.reduceLE, and_self, or_true, true_or, or_false, false_or, false_and, and_false, ah_t_w, ah_m_w, ah_n_w, lst1_0, List.tail_cons, w32_i, zbd, lst2_0, e1, e2, e3, zb_t]
theorem LX_adv (hX : LX t n k h) (hk : k < n) (hb : zL (zB t n k) = false ∧ zD (zB t n k) = false) : LX t n (k + 1) (ah_w h 1036 2 (k + 1)) := by
  obtain ⟨hM, e1, e2, e3, e4, hb1, hv, he⟩ := hX
  refine ⟨MI_w hM (by unfold fre; omega), ?_, ?_, ?_, ?_, ⟨by omega, by omega, hb1.2.2.1, by rw [ah_m_w, if_neg (by omega)]; exact hb1.2.2.2⟩, hv, ?_⟩
  · rw [← e1]; funext i; rw [ah_m_w, if_neg (by omega)]
  · rw [ah_m_w, if_neg (by omega)]; exact e2
  · rw [ah_m_w, if_pos ⟨rfl, rfl⟩]
  · rw [ah_m_w, if_neg (by omega)]; exact e4
  · rw [ah_m_w, if_neg (by omega)]
    have e5 : k + 1 - 1 = k := by omega
    refine ⟨by omega, fun q => by omega, fun q => ?_⟩
    unfold zpd at q; rw [e5, hb.1, hb.2] at q; cases q
theorem zbk_no (hb : zbk c = true) : zL c = false ∧ zD c = false := by
  unfold zbk at hb
  have := of_decide_eq_true hb
  exact ⟨decide_eq_false (by omega), decide_eq_false (by omega)⟩
theorem zskf_le : ∀ (j : Nat) (k : Int), k ≤ zskf t n j k ∧ zskf t n j k ≤ k + j := by
  intro j
  induction j with
  | zero => intro k; simp only [zskf]; omega
  | succ j ih => intro k; simp only [zskf]; split; have := ih (k + 1); omega; omega
theorem zsk_le (h1 : k ≤ n) : k ≤ zsk t n k ∧ zsk t n k ≤ n := by
  have := @zskf_le n t (n - k).toNat k
  unfold zsk; omega
theorem zskf_st : ∀ (j : Nat) (k : Int), 0 ≤ k → k + j = n → zbk (zB t n (zskf t n j k)) = false := by
  intro j
  induction j with
  | zero => intro k h0 h1; simp only [zskf]; rw [zB_o (by omega)]; rfl
  | succ j ih =>
    intro k h0 h1; simp only [zskf]
    by_cases e : zbk (zB t n k) = true
    · rw [if_pos e]; exact ih (k + 1) (by omega) (by omega)
    · rw [if_neg e]; simpa using e
theorem zsk_st (h0 : 0 ≤ k) (h1 : k ≤ n) : zbk (zB t n (zsk t n k)) = false := zskf_st _ _ h0 (by omega)
theorem zsk_of (hb : zbk (zB t n k) = false) : zsk t n k = k := by
  unfold zsk
  cases (n - k).toNat with
  | zero => rfl
  | succ j => simp only [zskf]; rw [if_neg (by rw [hb]; decide)]
theorem zsk_zsk (h0 : 0 ≤ k) (h1 : k ≤ n) : zsk t n (zsk t n k) = zsk t n k := zsk_of (zsk_st h0 h1)
/-! look -/
theorem c_241n (hX : LX t n k h) (hs : zsk t n k = k) : wpC (d + 1) 241 [.inr (.inr 1036)] h Q ↔ Q (.inl (some (.inl (zB t n k)))) h := by
  obtain ⟨hM, e1, e2, e3, e4, hb1, hv, he⟩ := hX
  apply CT_iff; apply CT_of; rw [wpC_B]; refine ⟨⟨Nat.zero_lt_succ _, Nat.le_of_ble_eq_true rfl⟩, ?_⟩; simp only [lent]
  have hst : zbk (zB t n k) = false := by rw [← hs]; exact zsk_st hb1.1 hb1.2.1
  by_cases hlt : k < n
  · rw [zB_i hb1.1 hlt] at hst ⊢
    unfold zbk at hst
    have hst := of_decide_eq_false hst
    have g1 : ¬ t k = 10 := fun q => hst (Or.inr q)
    have g2 : ¬ t k = 32 := fun q => hst (Or.inl q)
    rw [q_241_0]
    simp (disch := omega) only [b_241_0, q_241_52, b_241_52, q_241_76, b_241_76, ↓w_bipush, ↓w_aload_n_0, ↓w_getfield, ↓w_iaload, ↓w_nop, ↓w_goto, ↓w_if_icmp_eq, ↓w_if_icmp_ne, ↓w_if_icmp_ge, ↓w_ireturn0, stw_0, stw_i, stw_l, stw_r, ofK0, ofK1, ofK2, lst1, lst2, lkill, kont_none, kont_some, Int.reduceToNat, List.length_cons, List.length_nil, Nat.reduceAdd, Nat.reduceLeDiff, Nat.zero_le, true_and, and_true, if_true, if_false, ne_eq, Int.reduceEq, Int.reduceNeg, not_false_eq_true, not_true_eq_false, ↓reduceIte, Int.reduceLT, Int.reduceLE, and_self, or_true, true_or, or_false, false_or, false_and, and_false, ah_t_w, ah_m_w, ah_n_w, lst1_0, List.tail_cons, w32_i, zbd, lst2_0, mt_1036a hM, mt_1037a hM, mt_1037b hM, mf_0 hM, e1, e2, e3, hlt, g1, g2]
  · rw [zB_o (by omega)]
    rw [q_241_0]
    simp (disch := omega) only [b_241_0, q_241_52, b_241_52, q_241_75, b_241_75, q_241_76, b_241_76, ↓w_iconst, ↓w_bipush, ↓w_aload_n_0, ↓w_getfield, ↓w_iaload, ↓w_nop, ↓w_goto, ↓w_if_icmp_eq, ↓w_if_icmp_ne, ↓w_if_icmp_ge, ↓w_ireturn0, stw_0, stw_i, stw_l, stw_r, ofK0, ofK1, ofK2, lst1, lst2, lkill, kont_none, kont_some, Int.reduceToNat, List.length_cons, List.length_nil, Nat.reduceAdd, Nat.reduceLeDiff, Nat.zero_le, true_and, and_true, if_true, if_false, ne_eq, Int.reduceEq, Int.reduceNeg, not_false_eq_true, not_true_eq_false, ↓reduceIte, Int.reduceLT, Int.reduceLE, and_self, or_true, true_or, or_false, false_or, false_and, and_false, ah_t_w, ah_m_w, ah_n_w, lst1_0, List.tail_cons, w32_i, zbd, lst2_0, mt_1036a hM, mt_1037a hM, mt_1037b hM, mf_0 hM, e1, e2, e3, hlt]
theorem l_241 (hQ : ∀ h', LX t n p h' → Off Wat h h' → Q (.inl (some (.inl (zB t n p)))) h') : ∀ (j : Nat) (k : Int) h', k + j = n → LX t n k h' → Off Wat h h' → zskf t n j k = p → wpB d 241 0 [some (.inr (.inr 1036))] [] h' Q := by
  intro j
  induction j with
  | zero =>
    intro k h' k1 hX hO hp
    have hq := hQ h'
    obtain ⟨hM, e1, e2, e3, e4, hb1, hv, he⟩ := hX
    simp only [zskf] at hp
    subst hp
    have hlt : ¬ k < n := by omega
    have := hq ⟨hM, e1, e2, e3, e4, hb1, hv, he⟩ hO
    rw [zB_o (by omega)] at this
    rw [q_241_0]
    simp (disch := omega) only [b_241_0, q_241_52, b_241_52, q_241_75, b_241_75, q_241_76, b_241_76, ↓w_iconst, ↓w_bipush, ↓w_aload_n_0, ↓w_getfield, ↓w_iaload, ↓w_nop, ↓w_goto, ↓w_if_icmp_eq, ↓w_if_icmp_ne, ↓w_if_icmp_ge, ↓w_ireturn0, stw_0, stw_i, stw_l, stw_r, ofK0, ofK1, ofK2, lst1, lst2, lkill, kont_none, kont_some, Int.reduceToNat, List.length_cons, List.length_nil, Nat.reduceAdd, Nat.reduceLeDiff, Nat.zero_le, true_and, and_true, if_true, if_false, ne_eq, Int.reduceEq, Int.reduceNeg, not_false_eq_true, not_true_eq_false, ↓reduceIte, Int.reduceLT, Int.reduceLE, and_self, or_true, true_or, or_false, false_or, false_and, and_false, ah_t_w, ah_m_w, ah_n_w, lst1_0, List.tail_cons, w32_i, zbd, lst2_0, mt_1036a hM, mt_1037a hM, mt_1037b hM, mf_0 hM, e1, e2, e3, hlt]
    exact this
  | succ j ih =>
    intro k h' k1 hX hO hp
    have hX' := hX
    obtain ⟨hM, e1, e2, e3, e4, hb1, hv, he⟩ := hX
    have hlt : k < n := by omega
    simp only [zskf] at hp
    by_cases g : zbk (zB t n k) = true
    · rw [if_pos g] at hp
      have hX1 := LX_adv hX' hlt (zbk_no g)
      have ih := ih (k + 1) _ (by omega) hX1 (Off_w hO (by unfold Wat; omega)) hp
      rw [zB_i hb1.1 hlt] at g
      unfold zbk at g
      have g := of_decide_eq_true g
      rw [q_241_0]
      by_cases g1 : t k = 10
      · simp (disch := omega) only [b_241_0, q_241_39, b_241_39, ↓w_iconst, ↓w_bipush, ↓w_aload_n_0, ↓w_dup_i, ↓w_dup_a, ↓w_iadd, ↓w_getfield, ↓w_putfield_0, ↓w_iaload, ↓w_nop, ↓w_goto, ↓w_if_icmp_eq, ↓w_if_icmp_ne, ↓w_if_icmp_ge, stw_0, stw_i, stw_l, stw_r, ofK0, ofK1, ofK2, lst1, lst2, lkill, kont_none, kont_some, Int.reduceToNat, List.length_cons, List.length_nil, Nat.reduceAdd, Nat.reduceLeDiff, Nat.zero_le, true_and, and_true, if_true, if_false, ne_eq, Int.reduceEq, Int.reduceNeg, not_false_eq_true, not_true_eq_false, ↓reduceIte, Int.reduceLT, Int.reduceLE, and_self, or_true, true_or, or_false, false_or, false_and, and_false, ah_t_w, ah_m_w, ah_n_w, lst1_0, List.tail_cons, w32_i, zbd, lst2_0, mt_1036a hM, mt_1037a hM, mt_1037b hM, mf_0 hM, e1, e2, e3, hlt, g1]
        exact ih
      · have g2 : t k = 32 := g.resolve_right g1
        simp (disch := omega) only [b_241_0, q_241_39, b_241_39, ↓w_iconst, ↓w_bipush, ↓w_aload_n_0, ↓w_dup_i, ↓w_dup_a, ↓w_iadd, ↓w_getfield, ↓w_putfield_0, ↓w_iaload, ↓w_nop, ↓w_goto, ↓w_if_icmp_eq, ↓w_if_icmp_ne, ↓w_if_icmp_ge, stw_0, stw_i, stw_l, stw_r, ofK0, ofK1, ofK2, lst1, lst2, lkill, kont_none, kont_some, Int.reduceToNat, List.length_cons, List.length_nil, Nat.reduceAdd, Nat.reduceLeDiff, Nat.zero_le, true_and, and_true, if_true, if_false, ne_eq, Int.reduceEq, Int.reduceNeg, not_false_eq_true, not_true_eq_false, ↓reduceIte, Int.reduceLT, Int.reduceLE, and_self, or_true, true_or, or_false, false_or, false_and, and_false, ah_t_w, ah_m_w, ah_n_w, lst1_0, List.tail_cons, w32_i, zbd, lst2_0, mt_1036a hM, mt_1037a hM, mt_1037b hM, mf_0 hM, e1, e2, e3, hlt, g1, g2, Int.reduceEq]
        exact ih
    · rw [if_neg g] at hp
      subst hp
      have hq := hQ h' hX' hO
      rw [zB_i hb1.1 hlt] at g hq
      unfold zbk at g
      have g : ¬ (t k = 32 ∨ t k = 10) := fun q => g (decide_eq_true q)
      have g1 : ¬ t k = 10 := fun q => g (Or.inr q)
      have g2 : ¬ t k = 32 := fun q => g (Or.inl q)
      rw [q_241_0]
      simp (disch := omega) only [b_241_0, q_241_52, b_241_52, q_241_76, b_241_76, ↓w_bipush, ↓w_aload_n_0, ↓w_getfield, ↓w_iaload, ↓w_nop, ↓w_goto, ↓w_if_icmp_eq, ↓w_if_icmp_ne, ↓w_if_icmp_ge, ↓w_ireturn0, stw_0, stw_i, stw_l, stw_r, ofK0, ofK1, ofK2, lst1, lst2, lkill, kont_none, kont_some, Int.reduceToNat, List.length_cons, List.length_nil, Nat.reduceAdd, Nat.reduceLeDiff, Nat.zero_le, true_and, and_true, if_true, if_false, ne_eq, Int.reduceEq, Int.reduceNeg, not_false_eq_true, not_true_eq_false, ↓reduceIte, Int.reduceLT, Int.reduceLE, and_self, or_true, true_or, or_false, false_or, false_and, and_false, ah_t_w, ah_m_w, ah_n_w, lst1_0, List.tail_cons, w32_i, zbd, lst2_0, mt_1036a hM, mt_1037a hM, mt_1037b hM, mf_0 hM, e1, e2, e3, hlt, g1, g2]
      exact hq
theorem c_241 (hX : LX t n k h) (hQ : ∀ h', LX t n (zsk t n k) h' → Off Wat h h' → Q (.inl (some (.inl (zB t n (zsk t n k))))) h') : wpC (d + 1) 241 [.inr (.inr 1036)] h Q := by
  rw [wpC_B]; refine ⟨⟨Nat.zero_lt_succ _, Nat.le_of_ble_eq_true rfl⟩, ?_⟩; simp only [lent]
  exact l_241 hQ (n - k).toNat k h (by have := hX.2.2.2.2.2.1; omega) hX Off_rfl rfl
/-! is a word here -/
theorem zwf_le : ∀ (j : Nat) (k : Int), k ≤ zwf t n j k ∧ zwf t n j k ≤ k + j := by
  intro j
  induction j with
  | zero => intro k; simp only [zwf]; omega
  | succ j ih => intro k; simp only [zwf]; split; have := ih (k + 1); omega; omega
theorem zwe_le (h1 : k ≤ n) : k ≤ zwe t n k ∧ zwe t n k ≤ n := by
  have := @zwf_le n t (n - k).toNat k
  unfold zwe; omega
theorem l_240a (hX : LX t n k h) {tl : ALoc} (hQ : wpB (d + 1) 240 61 (some (.inr (.inr 1036)) :: some (.inr (.inr r)) :: some (.inl p) :: tl) [] h Q) : ∀ (j : Nat) (q : Int), 0 ≤ q → q + j = n → zwf t n j q = p → wpB (d + 1) 240 35 (some (.inr (.inr 1036)) :: some (.inr (.inr r)) :: some (.inl q) :: tl) [] h Q := by
  obtain ⟨hM, e1, e2, e3, e4, hb1, hv, he⟩ := hX
  intro j
  induction j with
  | zero =>
    intro q q0 q1 hp
    have hlt : ¬ q < n := by omega
    simp only [zwf] at hp
    subst hp
    simp (disch := omega) only [q_240_35, b_240_35, ↓w_aload_n_0, ↓w_iload_n_2, ↓w_iinc_2, ↓w_getfield, ↓w_iaload, ↓w_goto, ↓w_ifCond_eq, ↓w_if_icmp_ge, ↓w_invokestatic_1, stw_0, stw_i, stw_l, stw_r, ofK0, ofK1, ofK2, lst1, lst2, lkill, kont_none, kont_some, Int.reduceToNat, List.length_cons, List.length_nil, Nat.reduceAdd, Nat.reduceLeDiff, Nat.zero_le, true_and, and_true, if_true, if_false, ne_eq, Int.reduceEq, Int.reduceNeg, not_false_eq_true, not_true_eq_false, ↓reduceIte, Int.reduceLT, Int.reduceLE, and_self, or_true, true_or, or_false, false_or, false_and, and_false, ah_t_w, ah_m_w, ah_n_w, lst1_0, List.tail_cons, w32_i, zbd, lst2_0, mt_1036a hM, mt_1037a hM, mt_1037b hM, mf_0 hM, e2, hlt]
    exact hQ
  | succ j ih =>
    intro q q0 q1 hp
    have hlt : q < n := by omega
    simp only [zwf] at hp
    rw [zB_i q0 hlt] at hp
    rw [q_240_35]
    cases g : zL (t q)
    · rw [g, if_neg (by decide)] at hp
      subst hp
      simp (disch := omega) only [b_240_35, ↓w_aload_n_0, ↓w_iload_n_2, ↓w_iinc_2, ↓w_getfield, ↓w_iaload, ↓w_goto, ↓w_ifCond_eq, ↓w_if_icmp_ge, ↓w_invokestatic_1, stw_0, stw_i, stw_l, stw_r, ofK0, ofK1, ofK2, lst1, lst2, lkill, kont_none, kont_some, Int.reduceToNat, List.length_cons, List.length_nil, Nat.reduceAdd, Nat.reduceLeDiff, Nat.zero_le, true_and, and_true, if_true, if_false, ne_eq, Int.reduceEq, Int.reduceNeg, not_false_eq_true, not_true_eq_false, ↓reduceIte, Int.reduceLT, Int.reduceLE, and_self, or_true, true_or, or_false, false_or, false_and, and_false, ah_t_w, ah_m_w, ah_n_w, lst1_0, List.tail_cons, w32_i, zbd, lst2_0, mt_1036a hM, mt_1037a hM, mt_1037b hM, mf_0 hM, e1, e2, hlt, c_242, g, zb_f]
      exact hQ
    · rw [g, if_pos rfl] at hp
      simp (disch := omega) only [b_240_35, ↓w_aload_n_0, ↓w_iload_n_2, ↓w_iinc_2, ↓w_getfield, ↓w_iaload, ↓w_goto, ↓w_ifCond_eq, ↓w_if_icmp_ge, ↓w_invokestatic_1, stw_0, stw_i, stw_l, stw_r, ofK0, ofK1, ofK2, lst1, lst2, lkill, kont_none, kont_some, Int.reduceToNat, List.length_cons, List.length_nil, Nat.reduceAdd, Nat.reduceLeDiff, Nat.zero_le, true_and, and_true, if_true, if_false, ne_eq, Int.reduceEq, Int.reduceNeg, not_false_eq_true, not_true_eq_false, ↓reduceIte, Int.reduceLT, Int.reduceLE, and_self, or_true, true_or, or_false, false_or, false_and, and_false, ah_t_w, ah_m_w, ah_n_w, lst1_0, List.tail_cons, w32_i, zbd, lst2_0, mt_1036a hM, mt_1037a hM, mt_1037b hM, mf_0 hM, e1, e2, hlt, c_242, g, zb_t]
      exact ih (q + 1) (by omega) (by omega) hp
theorem l_240b (hX : LX t n k h) (hW : WB W r h) {z2 : Int} (hk : k + W.length ≤ n) (hW2 : W.length ≤ 100) : ∀ (V : List Int) (i : Nat) tl, W.drop i = V → i ≤ W.length → wpB (d + 1) 240 76 (some (.inr (.inr 1036)) :: some (.inr (.inr r)) :: some (.inl z2) :: some (.inl i) :: tl) [] h (fun o h1 => o = .inl (some (.inl (zb (zwq t (k + i) V)))) ∧ h1 = h) := by
  obtain ⟨hM, e1, e2, e3, e4, hb1, hv, he⟩ := hX
  intro V
  induction V with
  | nil =>
    intro i tl hd hi
    have : W.length ≤ i := List.drop_eq_nil_iff.1 hd
    have hlt : ¬ (i : Int) < W.length := by omega
    simp (disch := omega) only [q_240_76, b_240_76, q_240_107, b_240_107, ↓w_iconst, ↓w_aload_n_0, ↓w_aload_n_1, ↓w_iload_n_3, ↓w_iadd, ↓w_getfield, ↓w_arraylength, ↓w_iaload, ↓w_caload, ↓w_if_icmp_eq, ↓w_if_icmp_ge, ↓w_ireturn1, stw_0, stw_i, stw_l, stw_r, ofK0, ofK1, ofK2, lst1, lst2, lkill, kont_none, kont_some, Int.reduceToNat, List.length_cons, List.length_nil, Nat.reduceAdd, Nat.reduceLeDiff, Nat.zero_le, true_and, and_true, if_true, if_false, ne_eq, Int.reduceEq, Int.reduceNeg, not_false_eq_true, not_true_eq_false, ↓reduceIte, Int.reduceLT, Int.reduceLE, and_self, or_true, true_or, or_false, false_or, false_and, and_false, ah_t_w, ah_m_w, ah_n_w, lst1_0, List.tail_cons, w32_i, zbd, lst2_0, mt_1036a hM, mt_1037a hM, mt_1037b hM, mf_0 hM, hW.1, hW.2.1, hlt, zwq, zb_t]
  | cons c V ih =>
    intro i tl hd hi
    have hl : i < W.length := by
      rcases Nat.lt_or_ge i W.length with q | q
      · exact q
      · rw [List.drop_eq_nil_iff.2 q] at hd; cases hd
    have hlt : (i : Int) < W.length := by omega
    have hd2 : W.drop (i + 1) = V := by rw [← List.drop_drop, hd]; rfl
    have hc : ah_m h r i = c := by
      rw [hW.2.2 i hl, List.getD_eq_getElem?_getD]
      have : W[i]? = some c := by
        have := congrArg (fun l => l[0]?) hd
        simpa using this
      rw [this]; rfl
    have ih := fun tl => ih (i + 1) tl hd2 (by omega)
    rw [q_240_76]
    by_cases g : t (k + i) = c
    · simp (disch := omega) only [b_240_76, q_240_101, b_240_101, ↓w_iconst, ↓w_aload_n_0, ↓w_aload_n_1, ↓w_iload_n_3, ↓w_iinc_3, ↓w_iadd, ↓w_getfield, ↓w_arraylength, ↓w_iaload, ↓w_caload, ↓w_goto, ↓w_if_icmp_eq, ↓w_if_icmp_ge, ↓w_ireturn1, stw_0, stw_i, stw_l, stw_r, ofK0, ofK1, ofK2, lst1, lst2, lkill, kont_none, kont_some, Int.reduceToNat, List.length_cons, List.length_nil, Nat.reduceAdd, Nat.reduceLeDiff, Nat.zero_le, true_and, and_true, if_true, if_false, ne_eq, Int.reduceEq, Int.reduceNeg, not_false_eq_true, not_true_eq_false, ↓reduceIte, Int.reduceLT, Int.reduceLE, and_self, or_true, true_or, or_false, false_or, false_and, and_false, ah_t_w, ah_m_w, ah_n_w, lst1_0, List.tail_cons, w32_i, zbd, lst2_0, mt_1036a hM, mt_1037a hM, mt_1037b hM, mf_0 hM, e1, e2, e3, hW.1, hW.2.1, hlt, hc, g, zwq]
      refine ⟨by omega, ?_⟩
      have e5 : k + ((i : Int) + 1) = k + (i : Int) + 1 := by omega
      have ih := ih tl
      rw [Int.natCast_add, Int.natCast_one, e5] at ih
      exact ih
    · simp (disch := omega) only [b_240_76, q_240_101, b_240_101, ↓w_iconst, ↓w_aload_n_0, ↓w_aload_n_1, ↓w_iload_n_3, ↓w_iinc_3, ↓w_iadd, ↓w_getfield, ↓w_arraylength, ↓w_iaload, ↓w_caload, ↓w_goto, ↓w_if_icmp_eq, ↓w_if_icmp_ge, ↓w_ireturn1, stw_0, stw_i, stw_l, stw_r, ofK0, ofK1, ofK2, lst1, lst2, lkill, kont_none, kont_some, Int.reduceToNat, List.length_cons, List.length_nil, Nat.reduceAdd, Nat.reduceLeDiff, Nat.zero_le, true_and, and_true, if_true, if_false, ne_eq, Int.reduceEq, Int.reduceNeg, not_false_eq_true, not_true_eq_false, ↓reduceIte, Int.reduceLT, Int.reduceLE, and_self, or_true, true_or, or_false, false_or, false_and, and_false, ah_t_w, ah_m_w, ah_n_w, lst1_0, List.tail_cons, w32_i, zbd, lst2_0, mt_1036a hM, mt_1037a hM, mt_1037b hM, mf_0 hM, e1, e2, e3, hW.1, hW.2.1, hlt, hc, g, zwq, zb_f]
      omega
theorem c_240n (hX : LX t n k h) (hW : WB W r h) (hW2 : W.length ≤ 100) (hs : zsk t n k = k) : wpC (d + 2) 240 [.inr (.inr 1036), .inr (.inr r)] h Q ↔ Q (.inl (some (.inl (zb (zhw t n k W))))) h := by
  have hX' := hX
  obtain ⟨hM, e1, e2, e3, e4, hb1, hv, he⟩ := hX
  unfold zhw zwb
  apply CT_iff; apply CT_of; rw [wpC_B]; refine ⟨⟨Nat.zero_lt_succ _, Nat.le_of_ble_eq_true rfl⟩, ?_⟩; simp only [lent]
  cases g1 : zL (zB t n k)
  · simp (disch := omega) only [q_240_0, b_240_0, q_240_28, b_240_28, ↓w_iconst, ↓w_aload_n_0, ↓w_getfield, ↓w_nop, ↓w_ifCond_eq, ↓w_ifCond_ne, ↓w_if_icmp_ne, ↓w_ireturn1, ↓w_invokevirtual_0, ↓w_invokestatic_1, stw_0, stw_i, stw_l, stw_r, ofK0, ofK1, ofK2, lst1, lst2, lkill, kont_none, kont_some, Int.reduceToNat, List.length_cons, List.length_nil, Nat.reduceAdd, Nat.reduceLeDiff, Nat.zero_le, true_and, and_true, if_true, if_false, ne_eq, Int.reduceEq, Int.reduceNeg, not_false_eq_true, not_true_eq_false, ↓reduceIte, Int.reduceLT, Int.reduceLE, and_self, or_true, true_or, or_false, false_or, false_and, and_false, ah_t_w, ah_m_w, ah_n_w, lst1_0, List.tail_cons, w32_i, zbd, lst2_0, mt_1036a hM, e4, c_241n hX' hs, c_242, g1, zb_f, Bool.false_and]
  · cases g2 : zpd t n k
    · have g3 : ¬ (k = ah_m h 1036 4) := fun q => by rw [he.2.1 q.symm] at g2; cases g2
      simp only [Bool.true_and, Bool.not_false]
      simp (disch := omega) only [q_240_0, b_240_0, q_240_30, b_240_30, ↓w_aload_n_0, ↓w_istore_n_2, ↓w_getfield, ↓w_nop, ↓w_ifCond_eq, ↓w_ifCond_ne, ↓w_if_icmp_ne, ↓w_invokevirtual_0, ↓w_invokestatic_1, stw_0, stw_i, stw_l, stw_r, ofK0, ofK1, ofK2, lst1, lst2, lkill, kont_none, kont_some, Int.reduceToNat, List.length_cons, List.length_nil, Nat.reduceAdd, Nat.reduceLeDiff, Nat.zero_le, true_and, and_true, if_true, if_false, ne_eq, Int.reduceEq, Int.reduceNeg, not_false_eq_true, not_true_eq_false, ↓reduceIte, Int.reduceLT, Int.reduceLE, and_self, or_true, true_or, or_false, false_or, false_and, and_false, ah_t_w, ah_m_w, ah_n_w, lst1_0, List.tail_cons, w32_i, zbd, lst2_0, mt_1036a hM, e3, e4, c_241n hX' hs, c_242, g1, g3, zb_t]
      refine l_240a hX' (p := zwe t n k) ?_ (n - k).toNat k hb1.1 (by omega) rfl
      have hwl := @zwe_le k n t hb1.2.1
      by_cases g4 : zwe t n k - k = W.length
      · simp (disch := omega) only [q_240_61, b_240_61, q_240_74, b_240_74, ↓w_iconst, ↓w_aload_n_0, ↓w_aload_n_1, ↓w_iload_n_2, ↓w_istore_n_3, ↓w_isub, ↓w_getfield, ↓w_arraylength, ↓w_nop, ↓w_if_icmp_eq, ↓w_ireturn1, stw_0, stw_i, stw_l, stw_r, ofK0, ofK1, ofK2, lst1, lst2, lkill, kont_none, kont_some, Int.reduceToNat, List.length_cons, List.length_nil, Nat.reduceAdd, Nat.reduceLeDiff, Nat.zero_le, true_and, and_true, if_true, if_false, ne_eq, Int.reduceEq, Int.reduceNeg, not_false_eq_true, not_true_eq_false, ↓reduceIte, Int.reduceLT, Int.reduceLE, and_self, or_true, true_or, or_false, false_or, false_and, and_false, ah_t_w, ah_m_w, ah_n_w, lst1_0, List.tail_cons, w32_i, zbd, lst2_0, mt_1036a hM, e3, hW.1, hW.2.1, g4, decide_true, Bool.true_and]
        have := @l_240b d h k n r t W hX' hW (zwe t n k) (by omega) hW2 W 0 [] rfl (Nat.zero_le _)
        simpa using this
      · simp (disch := omega) only [q_240_61, b_240_61, ↓w_iconst, ↓w_aload_n_0, ↓w_aload_n_1, ↓w_iload_n_2, ↓w_isub, ↓w_getfield, ↓w_arraylength, ↓w_if_icmp_eq, ↓w_ireturn1, stw_0, stw_i, stw_l, stw_r, ofK0, ofK1, ofK2, lst1, lst2, lkill, kont_none, kont_some, Int.reduceToNat, List.length_cons, List.length_nil, Nat.reduceAdd, Nat.reduceLeDiff, Nat.zero_le, true_and, and_true, if_true, if_false, ne_eq, Int.reduceEq, Int.reduceNeg, not_false_eq_true, not_true_eq_false, ↓reduceIte, Int.reduceLT, Int.reduceLE, and_self, or_true, true_or, or_false, false_or, false_and, and_false, ah_t_w, ah_m_w, ah_n_w, lst1_0, List.tail_cons, w32_i, zbd, lst2_0, mt_1036a hM, e3, hW.1, hW.2.1, g4, decide_false, Bool.false_and, zb_f]
    · have g3 : k = ah_m h 1036 4 := (he.2.2 g2).symm
      simp (disch := omega) only [q_240_0, b_240_0, q_240_28, b_240_28, ↓w_iconst, ↓w_aload_n_0, ↓w_getfield, ↓w_nop, ↓w_ifCond_eq, ↓w_ifCond_ne, ↓w_if_icmp_ne, ↓w_ireturn1, ↓w_invokevirtual_0, ↓w_invokestatic_1, stw_0, stw_i, stw_l, stw_r, ofK0, ofK1, ofK2, lst1, lst2, lkill, kont_none, kont_some, Int.reduceToNat, List.length_cons, List.length_nil, Nat.reduceAdd, Nat.reduceLeDiff, Nat.zero_le, true_and, and_true, if_true, if_false, ne_eq, Int.reduceEq, Int.reduceNeg, not_false_eq_true, not_true_eq_false, ↓reduceIte, Int.reduceLT, Int.reduceLE, and_self, or_true, true_or, or_false, false_or, false_and, and_false, ah_t_w, ah_m_w, ah_n_w, lst1_0, List.tail_cons, w32_i, zbd, lst2_0, mt_1036a hM, e3, e4, c_241n hX' hs, c_242, g1, ← g3, zb_t, zb_f, Bool.not_true, Bool.true_and, Bool.false_and]
theorem c_240 (hX : LX t n k h) (hW : WB W r h) (hW2 : W.length ≤ 100) (hQ : ∀ h', LX t n (zsk t n k) h' → Off Wat h h' → Q (.inl (some (.inl (zb (zhw t n (zsk t n k) W))))) h') : wpC (d + 2) 240 [.inr (.inr 1036), .inr (.inr r)] h Q := by
  have e4 := hX.2.2.2.2.1
  have hb := hX.2.2.2.2.2.1
  have hM := hX.1
  rw [wpC_B]; refine ⟨⟨Nat.zero_lt_succ _, Nat.le_of_ble_eq_true rfl⟩, ?_⟩; simp only [lent]
  simp (disch := omega) only [q_240_0, b_240_0, ↓w_aload_n_0, ↓w_getfield, ↓w_nop, ↓w_ifCond_eq, ↓w_ifCond_ne, ↓w_if_icmp_ne, ↓w_invokevirtual_0, ↓w_invokestatic_1, stw_0, stw_i, stw_l, stw_r, ofK0, ofK1, ofK2, lst1, lst2, lkill, kont_none, kont_some, Int.reduceToNat, List.length_cons, List.length_nil, Nat.reduceAdd, Nat.reduceLeDiff, Nat.zero_le, true_and, and_true, if_true, if_false, ne_eq, Int.reduceEq, Int.reduceNeg, not_false_eq_true, not_true_eq_false, ↓reduceIte, Int.reduceLT, Int.reduceLE, and_self, or_true, true_or, or_false, false_or, false_and, and_false, ah_t_w, ah_m_w, ah_n_w, lst1_0, List.tail_cons, w32_i, zbd, lst2_0, mt_1036a hM, e4]
  refine c_241 hX (fun h' hX' hO => ?_)
  have hs : zsk t n (zsk t n k) = zsk t n k := zsk_zsk hb.1 hb.2.1
  have hW' : WB W r h' := by unfold WB; rw [Off_t hO]; exact ⟨hW.1, hW.2.1, fun i hi => by rw [hO.2 _ _ (fun q => by unfold Wat at q; have := hW.1; rw [q.1, mt_1036a hM] at this; cases this)]; exact hW.2.2 i hi⟩
  have hq := (@c_240n d h' Q (zsk t n k) n r t W hX' hW' hW2 hs).2 (hQ h' hX' hO)
  rw [wpC_B] at hq
  have hq := hq.2
  have e4' := hX'.2.2.2.2.1
  simp only [lent] at hq
  simp (disch := omega) only [q_240_0, b_240_0, ↓w_aload_n_0, ↓w_getfield, ↓w_nop, ↓w_ifCond_eq, ↓w_ifCond_ne, ↓w_if_icmp_ne, ↓w_invokevirtual_0, ↓w_invokestatic_1, stw_0, stw_i, stw_l, stw_r, ofK0, ofK1, ofK2, lst1, lst2, lkill, kont_none, kont_some, Int.reduceToNat, List.length_cons, List.length_nil, Nat.reduceAdd, Nat.reduceLeDiff, Nat.zero_le, true_and, and_true, if_true, if_false, ne_eq, Int.reduceEq, Int.reduceNeg, not_false_eq_true, not_true_eq_false, ↓reduceIte, Int.reduceLT, Int.reduceLE, and_self, or_true, true_or, or_false, false_or, false_and, and_false, ah_t_w, ah_m_w, ah_n_w, mt_1036a hX'.1, e4', c_241n hX' hs] at hq
  simp (disch := omega) only [b_240_0, ↓w_aload_n_0, ↓w_getfield, ↓w_nop, ↓w_ifCond_eq, ↓w_ifCond_ne, ↓w_if_icmp_ne, ↓w_invokevirtual_0, ↓w_invokestatic_1, stw_0, stw_i, stw_l, stw_r, ofK0, ofK1, ofK2, lst1, lst2, lkill, kont_none, kont_some, Int.reduceToNat, List.length_cons, List.length_nil, Nat.reduceAdd, Nat.reduceLeDiff, Nat.zero_le, true_and, and_true, if_true, if_false, ne_eq, Int.reduceEq, Int.reduceNeg, not_false_eq_true, not_true_eq_false, ↓reduceIte, Int.reduceLT, Int.reduceLE, and_self, or_true, true_or, or_false, false_or, false_and, and_false, ah_t_w, ah_m_w, ah_n_w, mt_1036a hX'.1]
  exact hq
/-! takes, asks -/
def Wlx (r i : Int) : Prop := r = 1036 ∧ (i = 2 ∨ i = 4 ∨ i = 5 ∨ i = 6 ∨ i = 10 ∨ i = 44)
/-- at fault -/
def BX (k p : Int) (h : AH) : Prop := MI h ∧ ah_m h 1036 5 = k ∧ ah_m h 1036 6 = p ∧ k ≠ 0
theorem c_243 (hM : MI h) (h5 : ah_m h 1036 5 = 0) : wpC (d + 1) 243 [.inr (.inr 1036), .inl k, .inl p] h Q ↔ Q (.inl none) (ah_w (ah_w h 1036 5 k) 1036 6 p) := by
  apply CT_iff; apply CT_of; rw [wpC_B]; refine ⟨⟨Nat.zero_lt_succ _, Nat.le_of_ble_eq_true rfl⟩, ?_⟩; simp only [lent]
  simp (disch := omega) only [q_243_0, b_243_0, q_243_8, b_243_8, ↓w_aload_n_0, ↓w_iload_n_1, ↓w_iload_n_2, ↓w_getfield, ↓w_putfield_0, ↓w_ifCond_eq, ↓w_return, stw_0, stw_i, stw_l, stw_r, ofK0, ofK1, ofK2, lst1, lst2, lkill, kont_none, kont_some, Int.reduceToNat, List.length_cons, List.length_nil, Nat.reduceAdd, Nat.reduceLeDiff, Nat.zero_le, true_and, and_true, if_true, if_false, ne_eq, Int.reduceEq, Int.reduceNeg, not_false_eq_true, not_true_eq_false, ↓reduceIte, Int.reduceLT, Int.reduceLE, and_self, or_true, true_or, or_false, false_or, false_and, and_false, ah_t_w, ah_m_w, ah_n_w, lst1_0, List.tail_cons, w32_i, zbd, lst2_0, mt_1036a hM, h5]
theorem BX_fail (hM : MI h) (hk : k ≠ 0) : BX k p (ah_w (ah_w h 1036 5 k) 1036 6 p) := ⟨MI_w (MI_w hM (by unfold fre; omega)) (by unfold fre; omega), rfl, rfl, hk⟩
theorem zL_LD (hk : 0 ≤ k) (h : zL c = true) : zL c || zD c = true := by rw [h]; rfl
theorem zwq_L : ∀ (V : List Int) (k : Int), zwq t k V = true → ∀ i : Nat, i < V.length → t (k + i) = V.getD i 0 := by
  intro V
  induction V with
  | nil => intro k e i hi; cases hi
  | cons c V ih =>
    intro k e i hi
    simp only [zwq] at e
    by_cases g : t k = c
    · rw [if_pos g] at e
      cases i with
      | zero => simpa using g
      | succ i =>
        have := ih (k + 1) e i (by simp at hi; omega)
        rw [show k + ((i + 1 : Nat) : Int) = k + 1 + (i : Int) by omega, this]; rfl
    · rw [if_neg g] at e; cases e
theorem zwf_L : ∀ (j : Nat) (k q : Int), k ≤ q → q < zwf t n j k → zL (zB t n q) = true := by
  intro j
  induction j with
  | zero => intro k q h1 h2; simp only [zwf] at h2; omega
  | succ j ih =>
    intro k q h1 h2
    simp only [zwf] at h2
    by_cases g : zL (zB t n k) = true
    · rw [if_pos g] at h2
      by_cases e : q = k
      · rw [e]; exact g
      · exact ih (k + 1) q (by omega) h2
    · rw [if_neg g] at h2; omega
/-- behind a token: M's last end is here -/
theorem LX_tok {h' : AH} {q : Int} (hX : LX t n k h) (hM : MI h') (e1 : ah_m h' 1037 = t) (e3 : ah_m h' 1036 3 = n) (e2 : ah_m h' 1036 2 = q) (e4 : ah_m h' 1036 4 = q) (e5 : ah_m h' 1036 5 = 0) (e6 : ah_m h' 1036 6 = -1) (hq : 0 ≤ q ∧ q ≤ n) (hp : zpd t n q = true) : LX t n q h' :=
  ⟨hM, e1, e3, e2, e5, ⟨hq.1, hq.2, hX.2.2.2.2.2.1.2.2.1, e6⟩, hX.2.2.2.2.2.2.1, by omega, fun _ => hp, fun _ => e4⟩
theorem c_239 (hX : LX t n k h) (hW : WB W r h) (hW2 : W.length ≤ 100) (hW0 : W ≠ [])
    (hQ0 : ∀ h', zhw t n (zsk t n k) W = false → LX t n (zsk t n k) h' → Off Wat h h' → Q (.inl (some (.inl 0))) h')
    (hQ1 : ∀ h', zhw t n (zsk t n k) W = true → LX t n (zsk t n k + W.length) h' → Off Wlx h h' → Q (.inl (some (.inl 1))) h') : wpC (d + 3) 239 [.inr (.inr 1036), .inr (.inr r)] h Q := by
  have hM := hX.1
  have hb := hX.2.2.2.2.2.1
  rw [wpC_B]; refine ⟨⟨Nat.zero_lt_succ _, Nat.le_of_ble_eq_true rfl⟩, ?_⟩; simp only [lent]
  simp (disch := omega) only [q_239_0, b_239_0, ↓w_iconst, ↓w_aload_n_0, ↓w_aload_n_1, ↓w_ifCond_ne, ↓w_ireturn1, ↓w_invokevirtual_1, stw_0, stw_i, stw_l, stw_r, ofK0, ofK1, ofK2, lst1, lst2, lkill, kont_none, kont_some, Int.reduceToNat, List.length_cons, List.length_nil, Nat.reduceAdd, Nat.reduceLeDiff, Nat.zero_le, true_and, and_true, if_true, if_false, ne_eq, Int.reduceEq, Int.reduceNeg, not_false_eq_true, not_true_eq_false, ↓reduceIte, Int.reduceLT, Int.reduceLE, and_self, or_true, true_or, or_false, false_or, false_and, and_false, ah_t_w, ah_m_w, ah_n_w, lst1_0, List.tail_cons, w32_i, zbd, lst2_0, mt_1036a hM]
  refine c_240 hX hW hW2 (fun h' hX' hO => ?_)
  cases g : zhw t n (zsk t n k) W
  · simp (disch := omega) only [b_239_0, ↓w_iconst, ↓w_aload_n_0, ↓w_aload_n_1, ↓w_ifCond_ne, ↓w_ireturn1, ↓w_invokevirtual_1, stw_0, stw_i, stw_l, stw_r, ofK0, ofK1, ofK2, lst1, lst2, lkill, kont_none, kont_some, Int.reduceToNat, List.length_cons, List.length_nil, Nat.reduceAdd, Nat.reduceLeDiff, Nat.zero_le, true_and, and_true, if_true, if_false, ne_eq, Int.reduceEq, Int.reduceNeg, not_false_eq_true, not_true_eq_false, ↓reduceIte, Int.reduceLT, Int.reduceLE, and_self, or_true, true_or, or_false, false_or, false_and, and_false, ah_t_w, ah_m_w, ah_n_w, lst1_0, List.tail_cons, w32_i, zbd, lst2_0, mt_1036a hX'.1, zb_f]
    exact hQ0 h' g hX' hO
  · have e2 := hX'.2.2.2.1
    have hb' := hX'.2.2.2.2.2.1
    have hg := g
    unfold zhw at hg
    simp only [Bool.and_eq_true, decide_eq_true_eq] at hg
    have hwl := @zwe_le (zsk t n k) n t hb'.2.1
    have hl : 0 < W.length := List.length_pos_iff.2 hW0
    have hW' : (ah_t h' r).1 = -3 ∧ (ah_t h' r).2 = W.length := by rw [Off_t hO]; exact ⟨hW.1, hW.2.1⟩
    simp (disch := omega) only [b_239_0, q_239_10, b_239_10, ↓w_iconst, ↓w_aload_n_0, ↓w_aload_n_1, ↓w_dup_i, ↓w_dup_a, ↓w_iadd, ↓w_getfield, ↓w_putfield_0, ↓w_arraylength, ↓w_ifCond_ne, ↓w_ireturn1, ↓w_invokevirtual_1, stw_0, stw_i, stw_l, stw_r, ofK0, ofK1, ofK2, lst1, lst2, lkill, kont_none, kont_some, Int.reduceToNat, List.length_cons, List.length_nil, Nat.reduceAdd, Nat.reduceLeDiff, Nat.zero_le, true_and, and_true, if_true, if_false, ne_eq, Int.reduceEq, Int.reduceNeg, not_false_eq_true, not_true_eq_false, ↓reduceIte, Int.reduceLT, Int.reduceLE, and_self, or_true, true_or, or_false, false_or, false_and, and_false, ah_t_w, ah_m_w, ah_n_w, lst1_0, List.tail_cons, w32_i, zbd, lst2_0, mt_1036a hX'.1, zb_t, e2, hW'.1, hW'.2]
    refine hQ1 _ g (LX_tok hX' (MI_w (MI_w hX'.1 (by unfold fre; omega)) (by unfold fre; omega)) ?_ ?_ ?_ ?_ ?_ (by rw [ah_m_w, if_neg (by omega), ah_m_w, if_neg (by omega)]; exact hb'.2.2.2) (by omega) ?_) (Off_w (Off_w (Off_mono (fun r i w => by unfold Wat at w; unfold Wlx; omega) hO) (by unfold Wlx; omega)) (by unfold Wlx; omega))
    · rw [← hX'.2.1]; funext i; rw [ah_m_w, if_neg (by omega), ah_m_w, if_neg (by omega)]
    · rw [ah_m_w, if_neg (by omega), ah_m_w, if_neg (by omega)]; exact hX'.2.2.1
    · rw [ah_m_w, if_neg (by omega), ah_m_w, if_pos ⟨rfl, rfl⟩]
    · rw [ah_m_w, if_pos ⟨rfl, rfl⟩]
    · rw [ah_m_w, if_neg (by omega), ah_m_w, if_neg (by omega)]; exact hX'.2.2.2.2.1
    · unfold zpd
      have : zL (zB t n (zsk t n k + W.length - 1)) = true := zwf_L (n - zsk t n k).toNat (zsk t n k) _ (by omega) (by have : zwf t n (n - zsk t n k).toNat (zsk t n k) = zwe t n (zsk t n k) := rfl; omega)
      rw [this]; rfl
theorem c_238 (hX : LX t n k h) (hW : WB W r h) (hW2 : W.length ≤ 100) (hW0 : W ≠ [])
    (hQ0 : ∀ h', zhw t n (zsk t n k) W = false → BX 1 (zsk t n k) h' → Off Wlx h h' → Q (.inl none) h')
    (hQ1 : ∀ h', zhw t n (zsk t n k) W = true → LX t n (zsk t n k + W.length) h' → Off Wlx h h' → Q (.inl none) h') : wpC (d + 4) 238 [.inr (.inr 1036), .inr (.inr r)] h Q := by
  have hM := hX.1
  have h5 := hX.2.2.2.2.1
  rw [wpC_B]; refine ⟨⟨Nat.zero_lt_succ _, Nat.le_of_ble_eq_true rfl⟩, ?_⟩; simp only [lent]
  simp (disch := omega) only [q_238_0, b_238_0, ↓w_iconst, ↓w_aload_n_0, ↓w_aload_n_1, ↓w_getfield, ↓w_nop, ↓w_ifCond_ne, ↓w_invokevirtual_1, ↓w_invokevirtual_2, stw_0, stw_i, stw_l, stw_r, ofK0, ofK1, ofK2, lst1, lst2, lkill, kont_none, kont_some, Int.reduceToNat, List.length_cons, List.length_nil, Nat.reduceAdd, Nat.reduceLeDiff, Nat.zero_le, true_and, and_true, if_true, if_false, ne_eq, Int.reduceEq, Int.reduceNeg, not_false_eq_true, not_true_eq_false, ↓reduceIte, Int.reduceLT, Int.reduceLE, and_self, or_true, true_or, or_false, false_or, false_and, and_false, ah_t_w, ah_m_w, ah_n_w, lst1_0, List.tail_cons, w32_i, zbd, lst2_0, mt_1036a hM, h5]
  refine c_239 hX hW hW2 hW0 (fun h' g hX' hO => ?_) (fun h' g hX' hO => ?_)
  · have e2 := hX'.2.2.2.1
    simp (disch := omega) only [b_238_0, q_238_24, b_238_24, ↓w_iconst, ↓w_aload_n_0, ↓w_aload_n_1, ↓w_getfield, ↓w_nop, ↓w_ifCond_ne, ↓w_return, ↓w_invokevirtual_1, ↓w_invokevirtual_2, stw_0, stw_i, stw_l, stw_r, ofK0, ofK1, ofK2, lst1, lst2, lkill, kont_none, kont_some, Int.reduceToNat, List.length_cons, List.length_nil, Nat.reduceAdd, Nat.reduceLeDiff, Nat.zero_le, true_and, and_true, if_true, if_false, ne_eq, Int.reduceEq, Int.reduceNeg, not_false_eq_true, not_true_eq_false, ↓reduceIte, Int.reduceLT, Int.reduceLE, and_self, or_true, true_or, or_false, false_or, false_and, and_false, ah_t_w, ah_m_w, ah_n_w, lst1_0, List.tail_cons, w32_i, zbd, lst2_0, mt_1036a hX'.1, e2, c_243 hX'.1 hX'.2.2.2.2.1]
    exact hQ0 _ g (BX_fail hX'.1 (by decide)) (Off_w (Off_w (Off_mono (fun r i w => by unfold Wat at w; unfold Wlx; omega) hO) (by unfold Wlx; omega)) (by unfold Wlx; omega))
  · simp (disch := omega) only [b_238_0, q_238_24, b_238_24, ↓w_iconst, ↓w_aload_n_0, ↓w_aload_n_1, ↓w_getfield, ↓w_nop, ↓w_ifCond_ne, ↓w_return, ↓w_invokevirtual_1, ↓w_invokevirtual_2, stw_0, stw_i, stw_l, stw_r, ofK0, ofK1, ofK2, lst1, lst2, lkill, kont_none, kont_some, Int.reduceToNat, List.length_cons, List.length_nil, Nat.reduceAdd, Nat.reduceLeDiff, Nat.zero_le, true_and, and_true, if_true, if_false, ne_eq, Int.reduceEq, Int.reduceNeg, not_false_eq_true, not_true_eq_false, ↓reduceIte, Int.reduceLT, Int.reduceLE, and_self, or_true, true_or, or_false, false_or, false_and, and_false, ah_t_w, ah_m_w, ah_n_w, lst1_0, List.tail_cons, w32_i, zbd, lst2_0, mt_1036a hX'.1]
    exact hQ1 _ g hX' hO
theorem b_238 {kk : Int} (hB : BX kk p h) : wpC (d + 1) 238 [.inr (.inr 1036), .inr (.inr r)] h Q ↔ Q (.inl none) h := by
  have e := hB.2.1; have hk := hB.2.2.2
  apply CT_iff; apply CT_of; rw [wpC_B]; refine ⟨⟨Nat.zero_lt_succ _, Nat.le_of_ble_eq_true rfl⟩, ?_⟩; simp only [lent]
  simp (disch := omega) only [q_238_0, b_238_0, q_238_24, b_238_24, ↓w_iconst, ↓w_aload_n_0, ↓w_aload_n_1, ↓w_getfield, ↓w_nop, ↓w_ifCond_ne, ↓w_return, ↓w_invokevirtual_1, ↓w_invokevirtual_2, stw_0, stw_i, stw_l, stw_r, ofK0, ofK1, ofK2, lst1, lst2, lkill, kont_none, kont_some, Int.reduceToNat, List.length_cons, List.length_nil, Nat.reduceAdd, Nat.reduceLeDiff, Nat.zero_le, true_and, and_true, if_true, if_false, ne_eq, Int.reduceEq, Int.reduceNeg, not_false_eq_true, not_true_eq_false, ↓reduceIte, Int.reduceLT, Int.reduceLE, and_self, or_true, true_or, or_false, false_or, false_and, and_false, ah_t_w, ah_m_w, ah_n_w, lst1_0, List.tail_cons, w32_i, zbd, lst2_0, mt_1036a hB.1, e, hk]
theorem b_239 {kk : Int} (hB : BX kk p h) : wpC (d + 2) 239 [.inr (.inr 1036), .inr (.inr r)] h Q ↔ Q (.inl (some (.inl 0))) h := by
  have e := hB.2.1; have hk := hB.2.2.2
  have b_240 : ∀ {Q}, wpC (d + 1) 240 [.inr (.inr 1036), .inr (.inr r)] h Q ↔ Q (.inl (some (.inl 0))) h := by
    intro Q
    apply CT_iff; apply CT_of; rw [wpC_B]; refine ⟨⟨Nat.zero_lt_succ _, Nat.le_of_ble_eq_true rfl⟩, ?_⟩; simp only [lent]
    simp (disch := omega) only [q_240_0, b_240_0, q_240_28, b_240_28, ↓w_iconst, ↓w_aload_n_0, ↓w_getfield, ↓w_nop, ↓w_ifCond_eq, ↓w_ifCond_ne, ↓w_if_icmp_ne, ↓w_ireturn1, ↓w_invokevirtual_0, ↓w_invokestatic_1, stw_0, stw_i, stw_l, stw_r, ofK0, ofK1, ofK2, lst1, lst2, lkill, kont_none, kont_some, Int.reduceToNat, List.length_cons, List.length_nil, Nat.reduceAdd, Nat.reduceLeDiff, Nat.zero_le, true_and, and_true, if_true, if_false, ne_eq, Int.reduceEq, Int.reduceNeg, not_false_eq_true, not_true_eq_false, ↓reduceIte, Int.reduceLT, Int.reduceLE, and_self, or_true, true_or, or_false, false_or, false_and, and_false, ah_t_w, ah_m_w, ah_n_w, lst1_0, List.tail_cons, w32_i, zbd, lst2_0, mt_1036a hB.1, e, hk]
  apply CT_iff; apply CT_of; rw [wpC_B]; refine ⟨⟨Nat.zero_lt_succ _, Nat.le_of_ble_eq_true rfl⟩, ?_⟩; simp only [lent]
  simp (disch := omega) only [q_239_0, b_239_0, q_239_10, b_239_10, ↓w_iconst, ↓w_aload_n_0, ↓w_aload_n_1, ↓w_dup_i, ↓w_dup_a, ↓w_iadd, ↓w_getfield, ↓w_putfield_0, ↓w_arraylength, ↓w_ifCond_ne, ↓w_ireturn1, ↓w_invokevirtual_1, stw_0, stw_i, stw_l, stw_r, ofK0, ofK1, ofK2, lst1, lst2, lkill, kont_none, kont_some, Int.reduceToNat, List.length_cons, List.length_nil, Nat.reduceAdd, Nat.reduceLeDiff, Nat.zero_le, true_and, and_true, if_true, if_false, ne_eq, Int.reduceEq, Int.reduceNeg, not_false_eq_true, not_true_eq_false, ↓reduceIte, Int.reduceLT, Int.reduceLE, and_self, or_true, true_or, or_false, false_or, false_and, and_false, ah_t_w, ah_m_w, ah_n_w, lst1_0, List.tail_cons, w32_i, zbd, lst2_0, mt_1036a hB.1, b_240]
/-! signs -/
theorem c_248 {ch : Int} (hX : LX t n k h) (hc : zL ch = false ∧ zD ch = false ∧ ch ≠ -1)
    (hQ0 : ∀ h', zB t n (zsk t n k) ≠ ch → LX t n (zsk t n k) h' → Off Wat h h' → Q (.inl (some (.inl 0))) h')
    (hQ1 : ∀ h', zB t n (zsk t n k) = ch → LX t n (zsk t n k + 1) h' → Off Wat h h' → Q (.inl (some (.inl 1))) h') : wpC (d + 2) 248 [.inr (.inr 1036), .inl ch] h Q := by
  have hM := hX.1
  have h5 := hX.2.2.2.2.1
  rw [wpC_B]; refine ⟨⟨Nat.zero_lt_succ _, Nat.le_of_ble_eq_true rfl⟩, ?_⟩; simp only [lent]
  simp (disch := omega) only [q_248_0, b_248_0, ↓w_aload_n_0, ↓w_iload_n_1, ↓w_getfield, ↓w_nop, ↓w_if_icmp_eq, ↓w_ifCond_ne, ↓w_invokevirtual_0, stw_0, stw_i, stw_l, stw_r, ofK0, ofK1, ofK2, lst1, lst2, lkill, kont_none, kont_some, Int.reduceToNat, List.length_cons, List.length_nil, Nat.reduceAdd, Nat.reduceLeDiff, Nat.zero_le, true_and, and_true, if_true, if_false, ne_eq, Int.reduceEq, Int.reduceNeg, not_false_eq_true, not_true_eq_false, ↓reduceIte, Int.reduceLT, Int.reduceLE, and_self, or_true, true_or, or_false, false_or, false_and, and_false, ah_t_w, ah_m_w, ah_n_w, lst1_0, List.tail_cons, w32_i, zbd, lst2_0, mt_1036a hM, h5]
  refine c_241 hX (fun h' hX' hO => ?_)
  have e2 := hX'.2.2.2.1
  have hb' := hX'.2.2.2.2.2.1
  by_cases g : zB t n (zsk t n k) = ch
  · have hlt : zsk t n k < n := by
      rcases Int.lt_or_le (zsk t n k) n with q | q
      · exact q
      · rw [zB_o q] at g; exact absurd g.symm hc.2.2
    simp (disch := omega) only [b_248_0, q_248_17, b_248_17, ↓w_iconst, ↓w_aload_n_0, ↓w_iload_n_1, ↓w_dup_i, ↓w_dup_a, ↓w_iadd, ↓w_getfield, ↓w_putfield_0, ↓w_nop, ↓w_if_icmp_eq, ↓w_ifCond_ne, ↓w_ireturn1, ↓w_invokevirtual_0, stw_0, stw_i, stw_l, stw_r, ofK0, ofK1, ofK2, lst1, lst2, lkill, kont_none, kont_some, Int.reduceToNat, List.length_cons, List.length_nil, Nat.reduceAdd, Nat.reduceLeDiff, Nat.zero_le, true_and, and_true, if_true, if_false, ne_eq, Int.reduceEq, Int.reduceNeg, not_false_eq_true, not_true_eq_false, ↓reduceIte, Int.reduceLT, Int.reduceLE, and_self, or_true, true_or, or_false, false_or, false_and, and_false, ah_t_w, ah_m_w, ah_n_w, lst1_0, List.tail_cons, w32_i, zbd, lst2_0, mt_1036a hX'.1, e2, g]
    exact hQ1 _ g (LX_adv hX' hlt (by rw [g]; exact ⟨hc.1, hc.2.1⟩)) (Off_w hO (by unfold Wat; omega))
  · simp (disch := omega) only [b_248_0, q_248_15, b_248_15, ↓w_iconst, ↓w_aload_n_0, ↓w_iload_n_1, ↓w_getfield, ↓w_nop, ↓w_if_icmp_eq, ↓w_ifCond_ne, ↓w_ireturn1, ↓w_invokevirtual_0, stw_0, stw_i, stw_l, stw_r, ofK0, ofK1, ofK2, lst1, lst2, lkill, kont_none, kont_some, Int.reduceToNat, List.length_cons, List.length_nil, Nat.reduceAdd, Nat.reduceLeDiff, Nat.zero_le, true_and, and_true, if_true, if_false, ne_eq, Int.reduceEq, Int.reduceNeg, not_false_eq_true, not_true_eq_false, ↓reduceIte, Int.reduceLT, Int.reduceLE, and_self, or_true, true_or, or_false, false_or, false_and, and_false, ah_t_w, ah_m_w, ah_n_w, lst1_0, List.tail_cons, w32_i, zbd, lst2_0, mt_1036a hX'.1, e2, g]
    exact hQ0 _ g hX' hO
theorem c_247 {ch : Int} (hX : LX t n k h) (hc : zL ch = false ∧ zD ch = false ∧ ch ≠ -1)
    (hQ0 : ∀ h', zB t n (zsk t n k) ≠ ch → BX 1 (zsk t n k) h' → Off Wlx h h' → Q (.inl none) h')
    (hQ1 : ∀ h', zB t n (zsk t n k) = ch → LX t n (zsk t n k + 1) h' → Off Wat h h' → Q (.inl none) h') : wpC (d + 3) 247 [.inr (.inr 1036), .inl ch] h Q := by
  have hM := hX.1
  have h5 := hX.2.2.2.2.1
  rw [wpC_B]; refine ⟨⟨Nat.zero_lt_succ _, Nat.le_of_ble_eq_true rfl⟩, ?_⟩; simp only [lent]
  simp (disch := omega) only [q_247_0, b_247_0, ↓w_iconst, ↓w_aload_n_0, ↓w_iload_n_1, ↓w_getfield, ↓w_nop, ↓w_ifCond_ne, ↓w_invokevirtual_1, ↓w_invokevirtual_2, stw_0, stw_i, stw_l, stw_r, ofK0, ofK1, ofK2, lst1, lst2, lkill, kont_none, kont_some, Int.reduceToNat, List.length_cons, List.length_nil, Nat.reduceAdd, Nat.reduceLeDiff, Nat.zero_le, true_and, and_true, if_true, if_false, ne_eq, Int.reduceEq, Int.reduceNeg, not_false_eq_true, not_true_eq_false, ↓reduceIte, Int.reduceLT, Int.reduceLE, and_self, or_true, true_or, or_false, false_or, false_and, and_false, ah_t_w, ah_m_w, ah_n_w, lst1_0, List.tail_cons, w32_i, zbd, lst2_0, mt_1036a hM, h5]
  refine c_248 hX hc (fun h' g hX' hO => ?_) (fun h' g hX' hO => ?_)
  · have e2 := hX'.2.2.2.1
    simp (disch := omega) only [b_247_0, q_247_24, b_247_24, ↓w_iconst, ↓w_aload_n_0, ↓w_iload_n_1, ↓w_getfield, ↓w_nop, ↓w_ifCond_ne, ↓w_return, ↓w_invokevirtual_1, ↓w_invokevirtual_2, stw_0, stw_i, stw_l, stw_r, ofK0, ofK1, ofK2, lst1, lst2, lkill, kont_none, kont_some, Int.reduceToNat, List.length_cons, List.length_nil, Nat.reduceAdd, Nat.reduceLeDiff, Nat.zero_le, true_and, and_true, if_true, if_false, ne_eq, Int.reduceEq, Int.reduceNeg, not_false_eq_true, not_true_eq_false, ↓reduceIte, Int.reduceLT, Int.reduceLE, and_self, or_true, true_or, or_false, false_or, false_and, and_false, ah_t_w, ah_m_w, ah_n_w, lst1_0, List.tail_cons, w32_i, zbd, lst2_0, mt_1036a hX'.1, e2, c_243 hX'.1 hX'.2.2.2.2.1]
    exact hQ0 _ g (BX_fail hX'.1 (by decide)) (Off_w (Off_w (Off_mono (fun r i w => by unfold Wat at w; unfold Wlx; omega) hO) (by unfold Wlx; omega)) (by unfold Wlx; omega))
  · simp (disch := omega) only [b_247_0, q_247_24, b_247_24, ↓w_iconst, ↓w_aload_n_0, ↓w_iload_n_1, ↓w_getfield, ↓w_nop, ↓w_ifCond_ne, ↓w_return, ↓w_invokevirtual_1, ↓w_invokevirtual_2, stw_0, stw_i, stw_l, stw_r, ofK0, ofK1, ofK2, lst1, lst2, lkill, kont_none, kont_some, Int.reduceToNat, List.length_cons, List.length_nil, Nat.reduceAdd, Nat.reduceLeDiff, Nat.zero_le, true_and, and_true, if_true, if_false, ne_eq, Int.reduceEq, Int.reduceNeg, not_false_eq_true, not_true_eq_false, ↓reduceIte, Int.reduceLT, Int.reduceLE, and_self, or_true, true_or, or_false, false_or, false_and, and_false, ah_t_w, ah_m_w, ah_n_w, lst1_0, List.tail_cons, w32_i, zbd, lst2_0, mt_1036a hX'.1]
    exact hQ1 _ g hX' hO
theorem b_247 {kk ch : Int} (hB : BX kk p h) : wpC (d + 1) 247 [.inr (.inr 1036), .inl ch] h Q ↔ Q (.inl none) h := by
  have e := hB.2.1; have hk := hB.2.2.2
  apply CT_iff; apply CT_of; rw [wpC_B]; refine ⟨⟨Nat.zero_lt_succ _, Nat.le_of_ble_eq_true rfl⟩, ?_⟩; simp only [lent]
  simp (disch := omega) only [q_247_0, b_247_0, q_247_24, b_247_24, ↓w_iconst, ↓w_aload_n_0, ↓w_iload_n_1, ↓w_getfield, ↓w_nop, ↓w_ifCond_ne, ↓w_return, ↓w_invokevirtual_1, ↓w_invokevirtual_2, stw_0, stw_i, stw_l, stw_r, ofK0, ofK1, ofK2, lst1, lst2, lkill, kont_none, kont_some, Int.reduceToNat, List.length_cons, List.length_nil, Nat.reduceAdd, Nat.reduceLeDiff, Nat.zero_le, true_and, and_true, if_true, if_false, ne_eq, Int.reduceEq, Int.reduceNeg, not_false_eq_true, not_true_eq_false, ↓reduceIte, Int.reduceLT, Int.reduceLE, and_self, or_true, true_or, or_false, false_or, false_and, and_false, ah_t_w, ah_m_w, ah_n_w, lst1_0, List.tail_cons, w32_i, zbd, lst2_0, mt_1036a hB.1, e, hk]
theorem b_248 {kk ch : Int} (hB : BX kk p h) : wpC (d + 1) 248 [.inr (.inr 1036), .inl ch] h Q ↔ Q (.inl (some (.inl 0))) h := by
  have e := hB.2.1; have hk := hB.2.2.2
  apply CT_iff; apply CT_of; rw [wpC_B]; refine ⟨⟨Nat.zero_lt_succ _, Nat.le_of_ble_eq_true rfl⟩, ?_⟩; simp only [lent]
  simp (disch := omega) only [q_248_0, b_248_0, q_248_15, b_248_15, ↓w_iconst, ↓w_aload_n_0, ↓w_iload_n_1, ↓w_getfield, ↓w_nop, ↓w_if_icmp_eq, ↓w_ifCond_ne, ↓w_ireturn1, ↓w_invokevirtual_0, stw_0, stw_i, stw_l, stw_r, ofK0, ofK1, ofK2, lst1, lst2, lkill, kont_none, kont_some, Int.reduceToNat, List.length_cons, List.length_nil, Nat.reduceAdd, Nat.reduceLeDiff, Nat.zero_le, true_and, and_true, if_true, if_false, ne_eq, Int.reduceEq, Int.reduceNeg, not_false_eq_true, not_true_eq_false, ↓reduceIte, Int.reduceLT, Int.reduceLE, and_self, or_true, true_or, or_false, false_or, false_and, and_false, ah_t_w, ah_m_w, ah_n_w, lst1_0, List.tail_cons, w32_i, zbd, lst2_0, mt_1036a hB.1, e, hk]
end LEX
