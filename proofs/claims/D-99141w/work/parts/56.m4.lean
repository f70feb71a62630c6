/-! ===== M: the game, in terms of the board T and the row nw ===== -/
def zP (T : Int → Int → Int) : Nat := (T 1074 4 * T 1074 5).toNat
def zn (T : Int → Int → Int) : Nat := (T 1072 4).toNat
def zs (T : Int → Int → Int) (m : Int) : Int := T 1076 (17 + 2 * m)
def zwo (T : Int → Int → Int) (m : Int) : Int := T 1075 (22 + 4 * T 1076 (16 + 2 * m))
def zcw (T : Int → Int → Int) (m : Int) : Int := T 1075 (23 + 4 * T 1076 (16 + 2 * m))
def zG (T : Int → Int → Int) (nw : Int → Int) (m k : Int) : Bool := zgo nw (T 1076) (T 1075) (T 1072 4).toNat (k % T 1074 4) (k / T 1074 4) m
def zat (T : Int → Int → Int) (nw : Int → Int) (x y : Int) : Int := zman nw x y (T 1072 4).toNat 0
/-- moves of a man from place k on, j places looked at -/
def zmk (T : Int → Int → Int) (nw : Int → Int) (m : Int) : Nat → Int → List (Int × Int)
  | 0, _ => []
  | j + 1, k => if zG T nw m k = true then (m, k) :: zmk T nw m j (k + 1) else zmk T nw m j (k + 1)
def zmm (T : Int → Int → Int) (nw : Int → Int) (s : Int) : Nat → Int → List (Int × Int)
  | 0, _ => []
  | j + 1, m => (if zs T m = s then zmk T nw m (zP T) 0 else []) ++ zmm T nw s j (m + 1)
def zmv (T : Int → Int → Int) (nw : Int → Int) : List (Int × Int) := zmm T nw (nw 1) (zn T) 0
def zct (T : Int → Int → Int) (nw : Int → Int) : Nat → Int → Bool
  | 0, _ => false
  | j + 1, m => if zcw T m = 1 ∧ nw (2 + 2 * m) = -1 then true else zct T nw j (m + 1)
def zcr (T : Int → Int → Int) (nw : Int → Int) : Bool := zct T nw (zn T) 0
def zbl (T : Int → Int → Int) (nw : Int → Int) (s : Int) : Nat → Int → Int → Int
  | 0, _, a => a
  | j + 1, m, a => zbl T nw s j (m + 1) (if nw (2 + 2 * m) = -1 then a else if zs T m = s then a + zwo T m else a + -zwo T m)
def zbal (T : Int → Int → Int) (nw : Int → Int) (s : Int) : Int := zbl T nw s (zn T) 0 0
def zc1 (T : Int → Int → Int) (nw : Int → Int) (s k : Int) : Nat → Int → Bool
  | 0, _ => false
  | j + 1, m => if zs T m ≠ s ∧ zG T nw m k = true then true else zc1 T nw s k j (m + 1)
def zc2 (T : Int → Int → Int) (nw : Int → Int) (s : Int) : Nat → Int → Bool
  | 0, _ => false
  | j + 1, c => if zcw T c = 1 ∧ zs T c = s ∧ nw (2 + 2 * c) ≠ -1 ∧ zc1 T nw s (nw (2 + 2 * c) + T 1074 4 * nw (3 + 2 * c)) (zn T) 0 = true then true else zc2 T nw s j (c + 1)
def zchk (T : Int → Int → Int) (nw : Int → Int) (s : Int) : Bool := zc2 T nw s (zn T) 0
section M4
variable {d : Nat} {h : AH} {Q : QQ} {x y z m k s : Int} {T : Int → Int → Int} {nw : Int → Int}
set_option maxHeartbeats 2000000
theorem lst1_0 {tl : ALoc} {v : AV} : lst1 tl 0 v = some v :: tl.tail := by cases tl <;> rfl
theorem zb_0 {b : Bool} : (zb b = 0) = (b = false) := by cases b <;> simp [zb]
theorem zb_t : zb true = 1 := rfl
theorem zb_f : zb false = 0 := rfl
theorem zn_i (hG : MG T nw h) : ((zn T : Nat) : Int) = T 1072 4 := by have := hG.2.2.2.1.2.1; unfold zn; omega
theorem zP_i (hG : MG T nw h) : ((zP T : Nat) : Int) = T 1074 4 * T 1074 5 := by
  have h4 := hG.2.2.2.1.2.2.2.1; have h5 := hG.2.2.2.1.2.2.2.2.1
  have h6 : 0 ≤ T 1074 4 * T 1074 5 := Int.mul_nonneg h4.1 h5.1
  unfold zP; omega
theorem zP_b (hG : MG T nw h) : 0 ≤ T 1074 4 * T 1074 5 ∧ T 1074 4 * T 1074 5 ≤ 25 := by
  have h4 := hG.2.2.2.1.2.2.2.1; have h5 := hG.2.2.2.1.2.2.2.2.1
  exact ⟨Int.mul_nonneg h4.1 h5.1, Int.mul_le_mul h4.2 h5.2 h5.1 (by decide)⟩
theorem c_281 (hG : MG T nw h) : wpC (d + 1) 281 [.inr (.inr 1036)] h Q ↔ Q (.inl (some (.inl (T 1072 4)))) h := by
  rw [k_281 hG.1, g_1072 hG]
theorem c_299 (hG : MG T nw h) : wpC (d + 1) 299 [.inr (.inr 1036)] h Q ↔ Q (.inl (some (.inl (T 1072 5)))) h := by
  rw [k_299 hG.1, g_1072 hG]
theorem c_285 (hG : MG T nw h) (h1 : 0 ≤ m) (h2 : m < 8) : wpC (d + 1) 285 [.inr (.inr 1036), .inl m] h Q ↔ Q (.inl (some (.inl (nw (2 + 2 * m))))) h := by
  rw [k_285 hG.1 h1 h2, g_1083 hG]
theorem c_292 (hG : MG T nw h) (h1 : 0 ≤ m) (h2 : m < 8) : wpC (d + 1) 292 [.inr (.inr 1036), .inl m] h Q ↔ Q (.inl (some (.inl (nw (3 + 2 * m))))) h := by
  rw [k_292 hG.1 h1 h2, g_1083 hG]
theorem c_284 (hG : MG T nw h) (h1 : 0 ≤ m) (h2 : m < 8) : wpC (d + 2) 284 [.inr (.inr 1036), .inl m] h Q ↔ Q (.inl (some (.inl (if nw (2 + 2 * m) = -1 then 1 else 0)))) h := by
  rw [k_284 hG.1 h1 h2, g_1083 hG]
theorem c_283 (hG : MG T nw h) (h1 : 0 ≤ m) (h2 : m < 8) : wpC (d + 1) 283 [.inr (.inr 1036), .inl m] h Q ↔ Q (.inl (some (.inl (T 1076 (16 + 2 * m))))) h := by
  rw [k_283 hG.1 h1 h2, g_1076 hG]
theorem c_287 (hG : MG T nw h) (h1 : 0 ≤ m) (h2 : m < 8) : wpC (d + 1) 287 [.inr (.inr 1036), .inl m] h Q ↔ Q (.inl (some (.inl (zs T m)))) h := by
  rw [k_287 hG.1 h1 h2, g_1076 hG]; rfl
theorem c_282 (hG : MG T nw h) (h1 : 0 ≤ m) (h2 : m < 8) : wpC (d + 2) 282 [.inr (.inr 1036), .inl m] h Q ↔ Q (.inl (some (.inl (if zcw T m = 1 then 1 else 0)))) h := by
  rw [k_282 hG.1 (MV_of hG) h1 h2, g_1076 hG, g_1075 hG]; rfl
theorem c_315 (hG : MG T nw h) (h1 : 0 ≤ m) (h2 : m < 8) : wpC (d + 2) 315 [.inr (.inr 1036), .inl m] h Q ↔ Q (.inl (some (.inl (zwo T m)))) h := by
  rw [k_315 hG.1 (MV_of hG) h1 h2, g_1076 hG, g_1075 hG]; rfl
theorem c_289 (hG : MG T nw h) : wpC (d + 1) 289 [.inr (.inr 1036)] h Q ↔ Q (.inl (some (.inl (zP T)))) h := by
  rw [k_289 hG.1 (MV_of hG), g_1074 hG, zP_i hG]
theorem c_296 (hG : MG T nw h) : wpC (d + 2) 296 [.inr (.inr 1036), .inl x, .inl y] h Q ↔ Q (.inl (some (.inl (zat T nw x y)))) h := by
  rw [k_296 hG.1 (MV_of hG), g_1083 hG, g_1072 hG]; rfl
theorem c_290 (hG : MG T nw h) (h1 : 0 ≤ m) (h2 : m < 8) (hk : 0 ≤ k) (hk2 : k < zP T) : wpC (d + 4) 290 [.inr (.inr 1036), .inl m, .inl k] h Q ↔ Q (.inl (some (.inl (zb (zG T nw m k))))) h := by
  rw [k_290 hG.1 (MV_of hG) h1 h2 hk (by rw [g_1074 hG, ← zP_i hG]; exact hk2), g_1083 hG, g_1076 hG, g_1075 hG, g_1074 hG, g_1072 hG]; rfl
theorem zwo_b (hG : MG T nw h) (h1 : 0 ≤ m) (h2 : m < 8) : 0 ≤ zwo T m ∧ zwo T m ≤ 99 := by
  have hT := hG.2.2.2.1
  have a := (hT.2.2.2.2.2.1 m h1 h2).1
  exact (hT.2.2.2.2.2.2.1 _ a.1 a.2).2.2.1
theorem zmk_len {j : Nat} {k : Int} : (zmk T nw m j k).length ≤ j := by
  induction j generalizing k with
  | zero => exact Nat.le_refl 0
  | succ j ih =>
    have := @ih (k + 1)
    unfold zmk; split
    · simp only [List.length_cons]; omega
    · omega
/-! movesOf -/
theorem l_288 (hG : MG T nw h) (h1 : 0 ≤ m) (h2 : m < 8) : ∀ (j : Nat) (k n : Int), 0 ≤ k → k + j = zP T → 0 ≤ n → n + j ≤ 1000 → wpB (d + 4) 288 4 [some (.inr (.inr 1036)), some (.inl m), some (.inl n), some (.inl k)] [] h (fun o h1 => o = .inl (some (.inl (n + (zmk T nw m j k).length))) ∧ h1 = h) := by
  have hP := zP_b hG
  have hPi := zP_i hG
  intro j
  induction j with
  | zero =>
    intro k n h0 h1 h3 h4
    have hlt : ¬ k < (zP T : Int) := by omega
    simp (disch := omega) only [q_288_4, b_288_4, q_288_30, b_288_30, ↓w_aload_n_0, ↓w_iload_n_1, ↓w_iload_n_2, ↓w_iinc_2, ↓w_iload_n_3, ↓w_nop, ↓w_ifCond_eq, ↓w_if_icmp_ge, ↓w_ireturn0, ↓w_invokevirtual_0, ↓w_invokevirtual_2, stw_0, stw_i, stw_l, stw_r, ofK0, ofK1, ofK2, lst1, lst2, lkill, kont_none, kont_some, Int.reduceToNat, List.length_cons, List.length_nil, Nat.reduceAdd, Nat.reduceLeDiff, Nat.zero_le, true_and, and_true, if_true, if_false, ne_eq, Int.reduceEq, Int.reduceNeg, not_false_eq_true, not_true_eq_false, ↓reduceIte, Int.reduceLT, Int.reduceLE, and_self, or_true, true_or, or_false, false_or, false_and, and_false, ah_t_w, ah_m_w, ah_n_w, mt_1036a hG.1, c_289 hG, zmk, hlt]
    simp
  | succ j ih =>
    intro k n h0 h1 h3 h4
    have hlt : k < (zP T : Int) := by omega
    rw [q_288_4]
    cases e : zG T nw m k
    · have ih := ih (k + 1) n (by omega) (by omega) (by omega) (by omega)
      simp (disch := omega) only [q_288_24, b_288_24, b_288_4, ↓w_aload_n_0, ↓w_iload_n_1, ↓w_iinc_2, ↓w_iload_n_3, ↓w_iinc_3, ↓w_nop, ↓w_goto, ↓w_ifCond_eq, ↓w_if_icmp_ge, ↓w_invokevirtual_0, ↓w_invokevirtual_2, stw_0, stw_i, stw_l, stw_r, ofK0, ofK1, ofK2, lst1, lst2, lkill, kont_none, kont_some, Int.reduceToNat, List.length_cons, List.length_nil, Nat.reduceAdd, Nat.reduceLeDiff, Nat.zero_le, true_and, and_true, if_true, if_false, ne_eq, Int.reduceEq, Int.reduceNeg, not_false_eq_true, not_true_eq_false, ↓reduceIte, Int.reduceLT, Int.reduceLE, and_self, or_true, true_or, or_false, false_or, false_and, and_false, ah_t_w, ah_m_w, ah_n_w, mt_1036a hG.1, c_289 hG, c_290 hG, zmk, hlt, e, zb_f, w32_i]
      simpa using ih
    · have ih := ih (k + 1) (n + 1) (by omega) (by omega) (by omega) (by omega)
      simp (disch := omega) only [q_288_24, b_288_24, b_288_4, ↓w_aload_n_0, ↓w_iload_n_1, ↓w_iinc_2, ↓w_iload_n_3, ↓w_iinc_3, ↓w_nop, ↓w_goto, ↓w_ifCond_eq, ↓w_if_icmp_ge, ↓w_invokevirtual_0, ↓w_invokevirtual_2, stw_0, stw_i, stw_l, stw_r, ofK0, ofK1, ofK2, lst1, lst2, lkill, kont_none, kont_some, Int.reduceToNat, List.length_cons, List.length_nil, Nat.reduceAdd, Nat.reduceLeDiff, Nat.zero_le, true_and, and_true, if_true, if_false, ne_eq, Int.reduceEq, Int.reduceNeg, not_false_eq_true, not_true_eq_false, ↓reduceIte, Int.reduceLT, Int.reduceLE, and_self, or_true, true_or, or_false, false_or, false_and, and_false, ah_t_w, ah_m_w, ah_n_w, mt_1036a hG.1, c_289 hG, c_290 hG, zmk, hlt, e, zb_t, w32_i]
      have e2 : n + ((zmk T nw m j (k + 1)).length + 1 : Nat) = n + 1 + (zmk T nw m j (k + 1)).length := by omega
      simp only [List.length_cons, e2]
      exact ih
theorem c_288 (hG : MG T nw h) (h1 : 0 ≤ m) (h2 : m < 8) : wpC (d + 5) 288 [.inr (.inr 1036), .inl m] h Q ↔ Q (.inl (some (.inl (zmk T nw m (zP T) 0).length))) h := by
  have hP := zP_b hG
  have hPi := zP_i hG
  apply CT_iff; apply CT_of; rw [wpC_B]; refine ⟨⟨Nat.zero_lt_succ _, Nat.le_of_ble_eq_true rfl⟩, ?_⟩; simp only [lent]
  simp (disch := omega) only [q_288_0, b_288_0, ↓w_iconst, ↓w_istore_n_2, ↓w_istore_n_3, ↓w_nop, stw_0, stw_i, stw_l, stw_r, ofK0, ofK1, ofK2, lst1, lst2, lkill, kont_none, kont_some, Int.reduceToNat, List.length_cons, List.length_nil, Nat.reduceAdd, Nat.reduceLeDiff, Nat.zero_le, true_and, and_true, if_true, if_false, ne_eq, Int.reduceEq, Int.reduceNeg, not_false_eq_true, not_true_eq_false, ↓reduceIte, Int.reduceLT, Int.reduceLE, and_self, or_true, true_or, or_false, false_or, false_and, and_false, ah_t_w, ah_m_w, ah_n_w]
  have := @l_288 d h m T nw hG h1 h2 (zP T) 0 0 (by omega) (by omega) (by omega) (by omega)
  simpa using this
/-! isCrownTaken, hasMove, isOver -/
theorem l_280 (hG : MG T nw h) : ∀ (j : Nat) (i : Int), 0 ≤ i → i + j = T 1072 4 → wpB (d + 2) 280 2 [some (.inr (.inr 1036)), some (.inl i)] [] h (fun o h1 => o = .inl (some (.inl (zb (zct T nw j i)))) ∧ h1 = h) := by
  have h8 := hG.2.2.2.1.2.1
  intro j
  induction j with
  | zero =>
    intro i h0 h1
    have hlt : ¬ i < T 1072 4 := by omega
    simp (disch := omega) only [q_280_2, b_280_2, q_280_34, b_280_34, ↓w_iconst, ↓w_aload_n_0, ↓w_iload_n_1, ↓w_ifCond_eq, ↓w_if_icmp_ge, ↓w_ireturn1, ↓w_invokevirtual_0, ↓w_invokevirtual_1, stw_0, stw_i, stw_l, stw_r, ofK0, ofK1, ofK2, lst1, lst2, lkill, kont_none, kont_some, Int.reduceToNat, List.length_cons, List.length_nil, Nat.reduceAdd, Nat.reduceLeDiff, Nat.zero_le, true_and, and_true, if_true, if_false, ne_eq, Int.reduceEq, Int.reduceNeg, not_false_eq_true, not_true_eq_false, ↓reduceIte, Int.reduceLT, Int.reduceLE, and_self, or_true, true_or, or_false, false_or, false_and, and_false, ah_t_w, ah_m_w, ah_n_w, mt_1036a hG.1, c_281 hG, zct, zb_f, hlt]
  | succ j ih =>
    intro i h0 h1
    have ih := ih (i + 1) (by omega) (by omega)
    have hlt : i < T 1072 4 := by omega
    rw [q_280_2]
    by_cases e1 : zcw T i = 1
    · by_cases e2 : nw (2 + 2 * i) = -1
      · simp (disch := omega) only [q_280_28, b_280_28, q_280_34, b_280_34, b_280_2, ↓w_iconst, ↓w_aload_n_0, ↓w_iload_n_1, ↓w_iinc_1, ↓w_goto, ↓w_ifCond_eq, ↓w_if_icmp_ge, ↓w_ireturn1, ↓w_invokevirtual_0, ↓w_invokevirtual_1, stw_0, stw_i, stw_l, stw_r, ofK0, ofK1, ofK2, lst1, lst2, lkill, kont_none, kont_some, Int.reduceToNat, List.length_cons, List.length_nil, Nat.reduceAdd, Nat.reduceLeDiff, Nat.zero_le, true_and, and_true, if_true, if_false, ne_eq, Int.reduceEq, Int.reduceNeg, not_false_eq_true, not_true_eq_false, ↓reduceIte, Int.reduceLT, Int.reduceLE, and_self, or_true, true_or, or_false, false_or, false_and, and_false, ah_t_w, ah_m_w, ah_n_w, mt_1036a hG.1, c_281 hG, c_282 hG, c_284 hG, w32_i, zct, zb_t, hlt, e1, e2]
      · simp (disch := omega) only [q_280_28, b_280_28, q_280_34, b_280_34, b_280_2, ↓w_iconst, ↓w_aload_n_0, ↓w_iload_n_1, ↓w_iinc_1, ↓w_goto, ↓w_ifCond_eq, ↓w_if_icmp_ge, ↓w_ireturn1, ↓w_invokevirtual_0, ↓w_invokevirtual_1, stw_0, stw_i, stw_l, stw_r, ofK0, ofK1, ofK2, lst1, lst2, lkill, kont_none, kont_some, Int.reduceToNat, List.length_cons, List.length_nil, Nat.reduceAdd, Nat.reduceLeDiff, Nat.zero_le, true_and, and_true, if_true, if_false, ne_eq, Int.reduceEq, Int.reduceNeg, not_false_eq_true, not_true_eq_false, ↓reduceIte, Int.reduceLT, Int.reduceLE, and_self, or_true, true_or, or_false, false_or, false_and, and_false, ah_t_w, ah_m_w, ah_n_w, mt_1036a hG.1, c_281 hG, c_282 hG, c_284 hG, w32_i, zct, hlt, e1, e2]
        exact ih
    · simp (disch := omega) only [q_280_28, b_280_28, q_280_34, b_280_34, b_280_2, ↓w_iconst, ↓w_aload_n_0, ↓w_iload_n_1, ↓w_iinc_1, ↓w_goto, ↓w_ifCond_eq, ↓w_if_icmp_ge, ↓w_ireturn1, ↓w_invokevirtual_0, ↓w_invokevirtual_1, stw_0, stw_i, stw_l, stw_r, ofK0, ofK1, ofK2, lst1, lst2, lkill, kont_none, kont_some, Int.reduceToNat, List.length_cons, List.length_nil, Nat.reduceAdd, Nat.reduceLeDiff, Nat.zero_le, true_and, and_true, if_true, if_false, ne_eq, Int.reduceEq, Int.reduceNeg, not_false_eq_true, not_true_eq_false, ↓reduceIte, Int.reduceLT, Int.reduceLE, and_self, or_true, true_or, or_false, false_or, false_and, and_false, ah_t_w, ah_m_w, ah_n_w, mt_1036a hG.1, c_281 hG, c_282 hG, c_284 hG, w32_i, zct, hlt, e1]
      exact ih
theorem c_280 (hG : MG T nw h) : wpC (d + 3) 280 [.inr (.inr 1036)] h Q ↔ Q (.inl (some (.inl (zb (zcr T nw))))) h := by
  have h8 := hG.2.2.2.1.2.1
  have hn := zn_i hG
  apply CT_iff; apply CT_of; rw [wpC_B]; refine ⟨⟨Nat.zero_lt_succ _, Nat.le_of_ble_eq_true rfl⟩, ?_⟩; simp only [lent]
  simp (disch := omega) only [q_280_0, b_280_0, ↓w_iconst, ↓w_istore_n_1, ↓w_nop, stw_0, stw_i, stw_l, stw_r, ofK0, ofK1, ofK2, lst1, lst2, lkill, kont_none, kont_some, Int.reduceToNat, List.length_cons, List.length_nil, Nat.reduceAdd, Nat.reduceLeDiff, Nat.zero_le, true_and, and_true, if_true, if_false, ne_eq, Int.reduceEq, Int.reduceNeg, not_false_eq_true, not_true_eq_false, ↓reduceIte, Int.reduceLT, Int.reduceLE, and_self, or_true, true_or, or_false, false_or, false_and, and_false, ah_t_w, ah_m_w, ah_n_w]
  exact l_280 hG _ 0 (by omega) (by omega)
theorem l_286 (hG : MG T nw h) : ∀ (j : Nat) (i : Int), 0 ≤ i → i + j = T 1072 4 → wpB (d + 5) 286 2 [some (.inr (.inr 1036)), some (.inl i)] [] h (fun o h1 => o = .inl (some (.inl (zb (!(zmm T nw (nw 1) j i).isEmpty)))) ∧ h1 = h) := by
  have h8 := hG.2.2.2.1.2.1
  intro j
  induction j with
  | zero =>
    intro i h0 h1
    have hlt : ¬ i < T 1072 4 := by omega
    simp (disch := omega) only [q_286_2, b_286_2, q_286_40, b_286_40, ↓w_iconst, ↓w_aload_n_0, ↓w_iload_n_1, ↓w_getfield, ↓w_iaload, ↓w_if_icmp_ne, ↓w_if_icmp_ge, ↓w_ifCond_le, ↓w_ireturn1, ↓w_invokevirtual_0, ↓w_invokevirtual_1, stw_0, stw_i, stw_l, stw_r, ofK0, ofK1, ofK2, lst1, lst2, lkill, kont_none, kont_some, Int.reduceToNat, List.length_cons, List.length_nil, Nat.reduceAdd, Nat.reduceLeDiff, Nat.zero_le, true_and, and_true, if_true, if_false, ne_eq, Int.reduceEq, Int.reduceNeg, not_false_eq_true, not_true_eq_false, ↓reduceIte, Int.reduceLT, Int.reduceLE, and_self, or_true, true_or, or_false, false_or, false_and, and_false, ah_t_w, ah_m_w, ah_n_w, mt_1036a hG.1, mt_1083a hG.1, mt_1083b hG.1, mf_62 hG.1, c_281 hG, zmm, List.isEmpty, hlt]
    simp [zb]
  | succ j ih =>
    intro i h0 h1
    have ih := ih (i + 1) (by omega) (by omega)
    have hlt : i < T 1072 4 := by omega
    rw [q_286_2]
    by_cases e1 : zs T i = nw 1
    · cases e2 : zmk T nw i (zP T) 0 with
      | nil =>
        simp (disch := omega) only [q_286_34, b_286_34, b_286_2, ↓w_iconst, ↓w_aload_n_0, ↓w_iload_n_1, ↓w_iinc_1, ↓w_getfield, ↓w_iaload, ↓w_goto, ↓w_if_icmp_ne, ↓w_if_icmp_ge, ↓w_ifCond_le, ↓w_ireturn1, ↓w_invokevirtual_0, ↓w_invokevirtual_1, stw_0, stw_i, stw_l, stw_r, ofK0, ofK1, ofK2, lst1, lst2, lkill, kont_none, kont_some, Int.reduceToNat, List.length_cons, List.length_nil, Nat.reduceAdd, Nat.reduceLeDiff, Nat.zero_le, true_and, and_true, if_true, if_false, ne_eq, Int.reduceEq, Int.reduceNeg, not_false_eq_true, not_true_eq_false, ↓reduceIte, Int.reduceLT, Int.reduceLE, and_self, or_true, true_or, or_false, false_or, false_and, and_false, ah_t_w, ah_m_w, ah_n_w, mt_1036a hG.1, mt_1083a hG.1, mt_1083b hG.1, mf_62 hG.1, g_1083 hG, c_281 hG, c_287 hG, c_288 hG, w32_i, zmm, hlt, e1, e2]
        simp only [List.nil_append]
        simpa using ih
      | cons a l =>
        have e3 : ¬ ((l.length + 1 : Nat) : Int) ≤ 0 := by omega
        simp (disch := omega) only [q_286_34, b_286_34, b_286_2, ↓w_iconst, ↓w_aload_n_0, ↓w_iload_n_1, ↓w_iinc_1, ↓w_getfield, ↓w_iaload, ↓w_goto, ↓w_if_icmp_ne, ↓w_if_icmp_ge, ↓w_ifCond_le, ↓w_ireturn1, ↓w_invokevirtual_0, ↓w_invokevirtual_1, stw_0, stw_i, stw_l, stw_r, ofK0, ofK1, ofK2, lst1, lst2, lkill, kont_none, kont_some, Int.reduceToNat, List.length_cons, List.length_nil, Nat.reduceAdd, Nat.reduceLeDiff, Nat.zero_le, true_and, and_true, if_true, if_false, ne_eq, Int.reduceEq, Int.reduceNeg, not_false_eq_true, not_true_eq_false, ↓reduceIte, Int.reduceLT, Int.reduceLE, and_self, or_true, true_or, or_false, false_or, false_and, and_false, ah_t_w, ah_m_w, ah_n_w, mt_1036a hG.1, mt_1083a hG.1, mt_1083b hG.1, mf_62 hG.1, g_1083 hG, c_281 hG, c_287 hG, c_288 hG, w32_i, zmm, hlt, e1, e2, e3]
        simp [zb]
    · simp (disch := omega) only [q_286_34, b_286_34, b_286_2, ↓w_iconst, ↓w_aload_n_0, ↓w_iload_n_1, ↓w_iinc_1, ↓w_getfield, ↓w_iaload, ↓w_goto, ↓w_if_icmp_ne, ↓w_if_icmp_ge, ↓w_ifCond_le, ↓w_ireturn1, ↓w_invokevirtual_0, ↓w_invokevirtual_1, stw_0, stw_i, stw_l, stw_r, ofK0, ofK1, ofK2, lst1, lst2, lkill, kont_none, kont_some, Int.reduceToNat, List.length_cons, List.length_nil, Nat.reduceAdd, Nat.reduceLeDiff, Nat.zero_le, true_and, and_true, if_true, if_false, ne_eq, Int.reduceEq, Int.reduceNeg, not_false_eq_true, not_true_eq_false, ↓reduceIte, Int.reduceLT, Int.reduceLE, and_self, or_true, true_or, or_false, false_or, false_and, and_false, ah_t_w, ah_m_w, ah_n_w, mt_1036a hG.1, mt_1083a hG.1, mt_1083b hG.1, mf_62 hG.1, g_1083 hG, c_281 hG, c_287 hG, w32_i, zmm, hlt, e1]
      simpa using ih
theorem c_286 (hG : MG T nw h) : wpC (d + 6) 286 [.inr (.inr 1036)] h Q ↔ Q (.inl (some (.inl (zb (!(zmv T nw).isEmpty))))) h := by
  have h8 := hG.2.2.2.1.2.1
  have hn := zn_i hG
  apply CT_iff; apply CT_of; rw [wpC_B]; refine ⟨⟨Nat.zero_lt_succ _, Nat.le_of_ble_eq_true rfl⟩, ?_⟩; simp only [lent]
  simp (disch := omega) only [q_286_0, b_286_0, ↓w_iconst, ↓w_istore_n_1, ↓w_nop, stw_0, stw_i, stw_l, stw_r, ofK0, ofK1, ofK2, lst1, lst2, lkill, kont_none, kont_some, Int.reduceToNat, List.length_cons, List.length_nil, Nat.reduceAdd, Nat.reduceLeDiff, Nat.zero_le, true_and, and_true, if_true, if_false, ne_eq, Int.reduceEq, Int.reduceNeg, not_false_eq_true, not_true_eq_false, ↓reduceIte, Int.reduceLT, Int.reduceLE, and_self, or_true, true_or, or_false, false_or, false_and, and_false, ah_t_w, ah_m_w, ah_n_w]
  exact l_286 hG _ 0 (by omega) (by omega)
theorem c_279 (hG : MG T nw h) : wpC (d + 7) 279 [.inr (.inr 1036)] h Q ↔ Q (.inl (some (.inl (zb (zcr T nw || (zmv T nw).isEmpty))))) h := by
  apply CT_iff; apply CT_of; rw [wpC_B]; refine ⟨⟨Nat.zero_lt_succ _, Nat.le_of_ble_eq_true rfl⟩, ?_⟩; simp only [lent]
  cases e : zcr T nw <;> cases e2 : (zmv T nw).isEmpty <;>
    simp (disch := omega) only [q_279_0, b_279_0, q_279_14, b_279_14, q_279_18, b_279_18, q_279_19, b_279_19, ↓w_iconst, ↓w_aload_n_0, ↓w_nop, ↓w_goto, ↓w_ifCond_ne, ↓w_ireturn1, ↓w_invokevirtual_0, stw_0, stw_i, stw_l, stw_r, ofK0, ofK1, ofK2, lst1, lst2, lkill, kont_none, kont_some, Int.reduceToNat, List.length_cons, List.length_nil, Nat.reduceAdd, Nat.reduceLeDiff, Nat.zero_le, true_and, and_true, if_true, if_false, ne_eq, Int.reduceEq, Int.reduceNeg, not_false_eq_true, not_true_eq_false, ↓reduceIte, Int.reduceLT, Int.reduceLE, and_self, or_true, true_or, or_false, false_or, false_and, and_false, ah_t_w, ah_m_w, ah_n_w, mt_1036a hG.1, c_280 hG, c_286 hG, e, e2, zb_t, zb_f, Bool.not_true, Bool.not_false, Bool.or_true, Bool.or_false, Bool.true_or, Bool.false_or]
/-! movesNow -/
theorem l_345 (hG : MG T nw h) : ∀ (j : Nat) (i n : Int), 0 ≤ i → i + j = T 1072 4 → 0 ≤ n → n ≤ 25 * i → wpB (d + 5) 345 13 [some (.inr (.inr 1036)), some (.inl n), some (.inl i)] [] h (fun o h1 => o = .inl (some (.inl (n + (zmm T nw (nw 1) j i).length))) ∧ h1 = h) := by
  have h8 := hG.2.2.2.1.2.1
  have hP := zP_b hG
  have hPi := zP_i hG
  intro j
  induction j with
  | zero =>
    intro i n h0 h1 h2 h3
    have hlt : ¬ i < T 1072 4 := by omega
    simp (disch := omega) only [q_345_13, b_345_13, q_345_49, b_345_49, ↓w_iconst, ↓w_aload_n_0, ↓w_iload_n_1, ↓w_iload_n_2, ↓w_istore_n_1, ↓w_iadd, ↓w_getfield, ↓w_iaload, ↓w_nop, ↓w_if_icmp_ne, ↓w_if_icmp_ge, ↓w_ireturn0, ↓w_invokevirtual_0, ↓w_invokevirtual_1, stw_0, stw_i, stw_l, stw_r, ofK0, ofK1, ofK2, lst1, lst2, lkill, kont_none, kont_some, Int.reduceToNat, List.length_cons, List.length_nil, Nat.reduceAdd, Nat.reduceLeDiff, Nat.zero_le, true_and, and_true, if_true, if_false, ne_eq, Int.reduceEq, Int.reduceNeg, not_false_eq_true, not_true_eq_false, ↓reduceIte, Int.reduceLT, Int.reduceLE, and_self, or_true, true_or, or_false, false_or, false_and, and_false, ah_t_w, ah_m_w, ah_n_w, mt_1036a hG.1, mt_1083a hG.1, mt_1083b hG.1, mf_62 hG.1, c_281 hG, zmm, hlt]
    simp
  | succ j ih =>
    intro i n h0 h1 h2 h3
    have hlt : i < T 1072 4 := by omega
    rw [q_345_13]
    by_cases e1 : zs T i = nw 1
    · have hl := @zmk_len i T nw (zP T) 0
      have ih := ih (i + 1) (n + (zmk T nw i (zP T) 0).length) (by omega) (by omega) (by omega) (by omega)
      simp (disch := omega) only [q_345_43, b_345_43, b_345_13, ↓w_iconst, ↓w_aload_n_0, ↓w_iload_n_1, ↓w_iload_n_2, ↓w_iinc_2, ↓w_istore_n_1, ↓w_iadd, ↓w_getfield, ↓w_iaload, ↓w_nop, ↓w_goto, ↓w_if_icmp_ne, ↓w_if_icmp_ge, ↓w_invokevirtual_0, ↓w_invokevirtual_1, stw_0, stw_i, stw_l, stw_r, ofK0, ofK1, ofK2, lst1, lst2, lkill, kont_none, kont_some, Int.reduceToNat, List.length_cons, List.length_nil, Nat.reduceAdd, Nat.reduceLeDiff, Nat.zero_le, true_and, and_true, if_true, if_false, ne_eq, Int.reduceEq, Int.reduceNeg, not_false_eq_true, not_true_eq_false, ↓reduceIte, Int.reduceLT, Int.reduceLE, and_self, or_true, true_or, or_false, false_or, false_and, and_false, ah_t_w, ah_m_w, ah_n_w, mt_1036a hG.1, mt_1083a hG.1, mt_1083b hG.1, mf_62 hG.1, g_1083 hG, c_281 hG, c_287 hG, c_288 hG, w32_i, zmm, hlt, e1]
      rw [List.length_append, Int.natCast_add, ← Int.add_assoc]
      exact ih
    · have ih := ih (i + 1) n (by omega) (by omega) (by omega) (by omega)
      simp (disch := omega) only [q_345_43, b_345_43, b_345_13, ↓w_iconst, ↓w_aload_n_0, ↓w_iload_n_1, ↓w_iload_n_2, ↓w_iinc_2, ↓w_istore_n_1, ↓w_iadd, ↓w_getfield, ↓w_iaload, ↓w_nop, ↓w_goto, ↓w_if_icmp_ne, ↓w_if_icmp_ge, ↓w_invokevirtual_0, ↓w_invokevirtual_1, stw_0, stw_i, stw_l, stw_r, ofK0, ofK1, ofK2, lst1, lst2, lkill, kont_none, kont_some, Int.reduceToNat, List.length_cons, List.length_nil, Nat.reduceAdd, Nat.reduceLeDiff, Nat.zero_le, true_and, and_true, if_true, if_false, ne_eq, Int.reduceEq, Int.reduceNeg, not_false_eq_true, not_true_eq_false, ↓reduceIte, Int.reduceLT, Int.reduceLE, and_self, or_true, true_or, or_false, false_or, false_and, and_false, ah_t_w, ah_m_w, ah_n_w, mt_1036a hG.1, mt_1083a hG.1, mt_1083b hG.1, mf_62 hG.1, g_1083 hG, c_281 hG, c_287 hG, w32_i, zmm, hlt, e1]
      simpa using ih
theorem c_345 (hG : MG T nw h) : wpC (d + 6) 345 [.inr (.inr 1036)] h Q ↔ Q (.inl (some (.inl (if zcr T nw = true then 0 else (zmv T nw).length)))) h := by
  have h8 := hG.2.2.2.1.2.1
  have hn := zn_i hG
  apply CT_iff; apply CT_of; rw [wpC_B]; refine ⟨⟨Nat.zero_lt_succ _, Nat.le_of_ble_eq_true rfl⟩, ?_⟩; simp only [lent]
  cases e : zcr T nw
  · simp (disch := omega) only [q_345_0, b_345_0, q_345_11, b_345_11, ↓w_iconst, ↓w_aload_n_0, ↓w_istore_n_1, ↓w_istore_n_2, ↓w_nop, ↓w_ifCond_eq, ↓w_ireturn0, ↓w_invokevirtual_0, stw_0, stw_i, stw_l, stw_r, ofK0, ofK1, ofK2, lst1, lst2, lkill, kont_none, kont_some, Int.reduceToNat, List.length_cons, List.length_nil, Nat.reduceAdd, Nat.reduceLeDiff, Nat.zero_le, true_and, and_true, if_true, if_false, ne_eq, Int.reduceEq, Int.reduceNeg, not_false_eq_true, not_true_eq_false, ↓reduceIte, Int.reduceLT, Int.reduceLE, and_self, or_true, true_or, or_false, false_or, false_and, and_false, ah_t_w, ah_m_w, ah_n_w, mt_1036a hG.1, c_280 hG, e, zb_f]
    have := @l_345 d h T nw hG (zn T) 0 0 (by omega) (by omega) (by omega) (by omega)
    simpa [zmv] using this
  · simp (disch := omega) only [q_345_0, b_345_0, ↓w_iconst, ↓w_aload_n_0, ↓w_istore_n_1, ↓w_ifCond_eq, ↓w_ireturn0, ↓w_invokevirtual_0, stw_0, stw_i, stw_l, stw_r, ofK0, ofK1, ofK2, lst1, lst2, lkill, kont_none, kont_some, Int.reduceToNat, List.length_cons, List.length_nil, Nat.reduceAdd, Nat.reduceLeDiff, Nat.zero_le, true_and, and_true, if_true, if_false, ne_eq, Int.reduceEq, Int.reduceNeg, not_false_eq_true, not_true_eq_false, ↓reduceIte, Int.reduceLT, Int.reduceLE, and_self, or_true, true_or, or_false, false_or, false_and, and_false, ah_t_w, ah_m_w, ah_n_w, mt_1036a hG.1, c_280 hG, e, zb_t]
/-! balanceOf -/
theorem l_314 (hG : MG T nw h) : ∀ (j : Nat) (i a : Int), 0 ≤ i → i + j = T 1072 4 → -(99 * i) ≤ a → a ≤ 99 * i → wpB (d + 2) 314 4 [some (.inr (.inr 1036)), some (.inl s), some (.inl a), some (.inl i)] [] h (fun o h1 => o = .inl (some (.inl (zbl T nw s j i a))) ∧ h1 = h) := by
  have h8 := hG.2.2.2.1.2.1
  intro j
  induction j with
  | zero =>
    intro i a h0 h1 h2 h3
    have hlt : ¬ i < T 1072 4 := by omega
    simp (disch := omega) only [q_314_4, b_314_4, q_314_52, b_314_52, ↓w_aload_n_0, ↓w_iload_n_1, ↓w_iload_n_2, ↓w_iload_n_3, ↓w_goto, ↓w_ifCond_ne, ↓w_if_icmp_ne, ↓w_if_icmp_ge, ↓w_ireturn0, ↓w_invokevirtual_0, ↓w_invokevirtual_1, stw_0, stw_i, stw_l, stw_r, ofK0, ofK1, ofK2, lst1, lst2, lkill, kont_none, kont_some, Int.reduceToNat, List.length_cons, List.length_nil, Nat.reduceAdd, Nat.reduceLeDiff, Nat.zero_le, true_and, and_true, if_true, if_false, ne_eq, Int.reduceEq, Int.reduceNeg, not_false_eq_true, not_true_eq_false, ↓reduceIte, Int.reduceLT, Int.reduceLE, and_self, or_true, true_or, or_false, false_or, false_and, and_false, ah_t_w, ah_m_w, ah_n_w, mt_1036a hG.1, c_281 hG, zbl, hlt]
  | succ j ih =>
    intro i a h0 h1 h2 h3
    have hlt : i < T 1072 4 := by omega
    have hw := @zwo_b h i T nw hG (by omega) (by omega)
    rw [q_314_4]
    by_cases e1 : nw (2 + 2 * i) = -1
    · have ih := ih (i + 1) a (by omega) (by omega) (by omega) (by omega)
      simp (disch := omega) only [q_314_38, b_314_38, q_314_44, b_314_44, q_314_46, b_314_46, b_314_4, ↓w_aload_n_0, ↓w_iload_n_1, ↓w_iload_n_2, ↓w_iload_n_3, ↓w_iinc_3, ↓w_istore_n_2, ↓w_iadd, ↓w_ineg, ↓w_nop, ↓w_goto, ↓w_ifCond_ne, ↓w_if_icmp_ne, ↓w_if_icmp_ge, ↓w_invokevirtual_0, ↓w_invokevirtual_1, stw_0, stw_i, stw_l, stw_r, ofK0, ofK1, ofK2, lst1, lst2, lkill, kont_none, kont_some, Int.reduceToNat, List.length_cons, List.length_nil, Nat.reduceAdd, Nat.reduceLeDiff, Nat.zero_le, true_and, and_true, if_true, if_false, ne_eq, Int.reduceEq, Int.reduceNeg, not_false_eq_true, not_true_eq_false, ↓reduceIte, Int.reduceLT, Int.reduceLE, and_self, or_true, true_or, or_false, false_or, false_and, and_false, ah_t_w, ah_m_w, ah_n_w, mt_1036a hG.1, c_281 hG, c_284 hG, w32_i, zbl, hlt, e1]
      exact ih
    · by_cases e2 : zs T i = s
      · have ih := ih (i + 1) (a + zwo T i) (by omega) (by omega) (by omega) (by omega)
        simp (disch := omega) only [q_314_38, b_314_38, q_314_44, b_314_44, q_314_46, b_314_46, b_314_4, ↓w_aload_n_0, ↓w_iload_n_1, ↓w_iload_n_2, ↓w_iload_n_3, ↓w_iinc_3, ↓w_istore_n_2, ↓w_iadd, ↓w_ineg, ↓w_nop, ↓w_goto, ↓w_ifCond_ne, ↓w_if_icmp_ne, ↓w_if_icmp_ge, ↓w_invokevirtual_0, ↓w_invokevirtual_1, stw_0, stw_i, stw_l, stw_r, ofK0, ofK1, ofK2, lst1, lst2, lkill, kont_none, kont_some, Int.reduceToNat, List.length_cons, List.length_nil, Nat.reduceAdd, Nat.reduceLeDiff, Nat.zero_le, true_and, and_true, if_true, if_false, ne_eq, Int.reduceEq, Int.reduceNeg, not_false_eq_true, not_true_eq_false, ↓reduceIte, Int.reduceLT, Int.reduceLE, and_self, or_true, true_or, or_false, false_or, false_and, and_false, ah_t_w, ah_m_w, ah_n_w, mt_1036a hG.1, c_281 hG, c_284 hG, c_287 hG, c_315 hG, w32_i, zbl, hlt, e1, e2]
        exact ih
      · have ih := ih (i + 1) (a + -zwo T i) (by omega) (by omega) (by omega) (by omega)
        simp (disch := omega) only [q_314_38, b_314_38, q_314_44, b_314_44, q_314_46, b_314_46, b_314_4, ↓w_aload_n_0, ↓w_iload_n_1, ↓w_iload_n_2, ↓w_iload_n_3, ↓w_iinc_3, ↓w_istore_n_2, ↓w_iadd, ↓w_ineg, ↓w_nop, ↓w_goto, ↓w_ifCond_ne, ↓w_if_icmp_ne, ↓w_if_icmp_ge, ↓w_invokevirtual_0, ↓w_invokevirtual_1, stw_0, stw_i, stw_l, stw_r, ofK0, ofK1, ofK2, lst1, lst2, lkill, kont_none, kont_some, Int.reduceToNat, List.length_cons, List.length_nil, Nat.reduceAdd, Nat.reduceLeDiff, Nat.zero_le, true_and, and_true, if_true, if_false, ne_eq, Int.reduceEq, Int.reduceNeg, not_false_eq_true, not_true_eq_false, ↓reduceIte, Int.reduceLT, Int.reduceLE, and_self, or_true, true_or, or_false, false_or, false_and, and_false, ah_t_w, ah_m_w, ah_n_w, mt_1036a hG.1, c_281 hG, c_284 hG, c_287 hG, c_315 hG, w32_i, zbl, hlt, e1, e2]
        exact ih
theorem c_314 (hG : MG T nw h) : wpC (d + 3) 314 [.inr (.inr 1036), .inl s] h Q ↔ Q (.inl (some (.inl (zbal T nw s)))) h := by
  have h8 := hG.2.2.2.1.2.1
  have hn := zn_i hG
  apply CT_iff; apply CT_of; rw [wpC_B]; refine ⟨⟨Nat.zero_lt_succ _, Nat.le_of_ble_eq_true rfl⟩, ?_⟩; simp only [lent]
  simp (disch := omega) only [q_314_0, b_314_0, ↓w_iconst, ↓w_istore_n_2, ↓w_istore_n_3, ↓w_nop, stw_0, stw_i, stw_l, stw_r, ofK0, ofK1, ofK2, lst1, lst2, lkill, kont_none, kont_some, Int.reduceToNat, List.length_cons, List.length_nil, Nat.reduceAdd, Nat.reduceLeDiff, Nat.zero_le, true_and, and_true, if_true, if_false, ne_eq, Int.reduceEq, Int.reduceNeg, not_false_eq_true, not_true_eq_false, ↓reduceIte, Int.reduceLT, Int.reduceLE, and_self, or_true, true_or, or_false, false_or, false_and, and_false, ah_t_w, ah_m_w, ah_n_w]
  exact l_314 hG _ 0 0 (by omega) (by omega) (by omega) (by omega)
theorem c_318 (hG : MG T nw h) : wpC (d + 4) 318 [.inr (.inr 1036)] h Q ↔ Q (.inl (some (.inl (zbal T nw (nw 1))))) h := by
  apply CT_iff; apply CT_of; rw [wpC_B]; refine ⟨⟨Nat.zero_lt_succ _, Nat.le_of_ble_eq_true rfl⟩, ?_⟩; simp only [lent]
  simp (disch := omega) only [q_318_0, b_318_0, ↓w_iconst, ↓w_aload_n_0, ↓w_getfield, ↓w_iaload, ↓w_ireturn0, ↓w_invokevirtual_1, stw_0, stw_i, stw_l, stw_r, ofK0, ofK1, ofK2, lst1, lst2, lkill, kont_none, kont_some, Int.reduceToNat, List.length_cons, List.length_nil, Nat.reduceAdd, Nat.reduceLeDiff, Nat.zero_le, true_and, and_true, if_true, if_false, ne_eq, Int.reduceEq, Int.reduceNeg, not_false_eq_true, not_true_eq_false, ↓reduceIte, Int.reduceLT, Int.reduceLE, and_self, or_true, true_or, or_false, false_or, false_and, and_false, ah_t_w, ah_m_w, ah_n_w, mt_1036a hG.1, mt_1083a hG.1, mt_1083b hG.1, mf_62 hG.1, g_1083 hG, c_314 hG]
/-! isCheck -/
theorem zpl (hG : MG T nw h) (h1 : 0 ≤ m) (h2 : m < T 1072 4) (e : nw (2 + 2 * m) ≠ -1) : (0 ≤ nw (2 + 2 * m) ∧ nw (2 + 2 * m) < T 1074 4 ∧ 0 ≤ nw (3 + 2 * m) ∧ nw (3 + 2 * m) < T 1074 5) ∧ (0 ≤ T 1074 4 * nw (3 + 2 * m) ∧ T 1074 4 * nw (3 + 2 * m) ≤ 20) ∧ 0 ≤ nw (2 + 2 * m) + T 1074 4 * nw (3 + 2 * m) ∧ nw (2 + 2 * m) + T 1074 4 * nw (3 + 2 * m) < zP T := by
  have b := hG.2.2.2.2.2.1 m h1 h2
  have h4 := hG.2.2.2.1.2.2.2.1; have h5 := hG.2.2.2.1.2.2.2.2.1
  rcases b with b | b
  · exact absurd b.1 e
  · generalize nw (2 + 2 * m) = x at *
    generalize nw (3 + 2 * m) = y at *
    rw [zP_i hG]
    generalize T 1074 4 = C at *
    generalize T 1074 5 = R at *
    have g1 : 0 ≤ C * y := Int.mul_nonneg h4.1 b.2.1
    have g2 : C * (y + 1) ≤ C * R := Int.mul_le_mul_of_nonneg_left (by omega) h4.1
    have g3 : C * y ≤ 5 * 4 := Int.mul_le_mul h4.2 (by omega) b.2.1 (by decide)
    rw [Int.mul_add, Int.mul_one] at g2
    omega
theorem l_310i {c : Int} (hG : MG T nw h) (hc : 0 ≤ c ∧ c < T 1072 4) (e : nw (2 + 2 * c) ≠ -1)
    (out : ∀ tl, zc1 T nw s (nw (2 + 2 * c) + T 1074 4 * nw (3 + 2 * c)) (zn T) 0 = false → wpB (d + 4) 310 91 (some (.inr (.inr 1036)) :: some (.inl s) :: some (.inl c) :: tl) [] h Q)
    (hy : zc1 T nw s (nw (2 + 2 * c) + T 1074 4 * nw (3 + 2 * c)) (zn T) 0 = true → Q (.inl (some (.inl 1))) h) :
    ∀ (j : Nat) (i : Int) tl, 0 ≤ i → i + j = T 1072 4 → zc1 T nw s (nw (2 + 2 * c) + T 1074 4 * nw (3 + 2 * c)) (zn T) 0 = zc1 T nw s (nw (2 + 2 * c) + T 1074 4 * nw (3 + 2 * c)) j i → wpB (d + 4) 310 40 (some (.inr (.inr 1036)) :: some (.inl s) :: some (.inl c) :: some (.inl i) :: tl) [] h Q := by
  have h8 := hG.2.2.2.1.2.1
  have h4 := hG.2.2.2.1.2.2.2.1; have h5 := hG.2.2.2.1.2.2.2.2.1
  have hb := zpl hG hc.1 hc.2 e
  intro j
  induction j with
  | zero =>
    intro i tl h0 h1 hz
    have hlt : ¬ i < T 1072 4 := by omega
    simp (disch := omega) only [q_310_40, b_310_40, ↓w_iconst, ↓w_aload_n_0, ↓w_iload_n_1, ↓w_iload_n_2, ↓w_iload_n_3, ↓w_iadd, ↓w_imul, ↓w_getfield, ↓w_iaload, ↓w_ifCond_eq, ↓w_if_icmp_eq, ↓w_if_icmp_ge, ↓w_ireturn1, ↓w_invokevirtual_0, ↓w_invokevirtual_1, ↓w_invokevirtual_2, stw_0, stw_i, stw_l, stw_r, ofK0, ofK1, ofK2, lst1, lst2, lkill, kont_none, kont_some, Int.reduceToNat, List.length_cons, List.length_nil, Nat.reduceAdd, Nat.reduceLeDiff, Nat.zero_le, true_and, and_true, if_true, if_false, ne_eq, Int.reduceEq, Int.reduceNeg, not_false_eq_true, not_true_eq_false, ↓reduceIte, Int.reduceLT, Int.reduceLE, and_self, or_true, true_or, or_false, false_or, false_and, and_false, ah_t_w, ah_m_w, ah_n_w, mt_1036a hG.1, mt_1074a hG.1, mt_1074b hG.1, mf_47 hG.1, c_281 hG, hlt]
    exact out _ hz
  | succ j ih =>
    intro i tl h0 h1 hz
    have hlt : i < T 1072 4 := by omega
    rw [q_310_40]
    by_cases e1 : zs T i = s
    · simp (disch := omega) only [q_310_85, b_310_85, b_310_40, ↓w_iconst, ↓w_aload_n_0, ↓w_iload_n_1, ↓w_iload_n_2, ↓w_iload_n_3, ↓w_iinc_3, ↓w_iadd, ↓w_imul, ↓w_getfield, ↓w_iaload, ↓w_goto, ↓w_ifCond_eq, ↓w_if_icmp_eq, ↓w_if_icmp_ge, ↓w_ireturn1, ↓w_invokevirtual_0, ↓w_invokevirtual_1, ↓w_invokevirtual_2, stw_0, stw_i, stw_l, stw_r, ofK0, ofK1, ofK2, lst1, lst2, lkill, kont_none, kont_some, Int.reduceToNat, List.length_cons, List.length_nil, Nat.reduceAdd, Nat.reduceLeDiff, Nat.zero_le, true_and, and_true, if_true, if_false, ne_eq, Int.reduceEq, Int.reduceNeg, not_false_eq_true, not_true_eq_false, ↓reduceIte, Int.reduceLT, Int.reduceLE, and_self, or_true, true_or, or_false, false_or, false_and, and_false, ah_t_w, ah_m_w, ah_n_w, mt_1036a hG.1, mt_1074a hG.1, mt_1074b hG.1, mf_47 hG.1, c_281 hG, c_287 hG, w32_i, hlt, e1]
      refine ih (i + 1) _ (by omega) (by omega) ?_
      rw [hz]; simp [zc1, e1]
    · cases e2 : zG T nw i (nw (2 + 2 * c) + T 1074 4 * nw (3 + 2 * c))
      · simp (disch := omega) only [q_310_85, b_310_85, b_310_40, ↓w_iconst, ↓w_aload_n_0, ↓w_iload_n_1, ↓w_iload_n_2, ↓w_iload_n_3, ↓w_iinc_3, ↓w_iadd, ↓w_imul, ↓w_getfield, ↓w_iaload, ↓w_goto, ↓w_ifCond_eq, ↓w_if_icmp_eq, ↓w_if_icmp_ge, ↓w_ireturn1, ↓w_invokevirtual_0, ↓w_invokevirtual_1, ↓w_invokevirtual_2, stw_0, stw_i, stw_l, stw_r, ofK0, ofK1, ofK2, lst1, lst2, lkill, kont_none, kont_some, Int.reduceToNat, List.length_cons, List.length_nil, Nat.reduceAdd, Nat.reduceLeDiff, Nat.zero_le, true_and, and_true, if_true, if_false, ne_eq, Int.reduceEq, Int.reduceNeg, not_false_eq_true, not_true_eq_false, ↓reduceIte, Int.reduceLT, Int.reduceLE, and_self, or_true, true_or, or_false, false_or, false_and, and_false, ah_t_w, ah_m_w, ah_n_w, mt_1036a hG.1, mt_1074a hG.1, mt_1074b hG.1, mf_47 hG.1, g_1074 hG, c_281 hG, c_285 hG, c_292 hG, c_287 hG, c_290 hG, w32_i, hlt, e1, e2, zb_f]
        refine ih (i + 1) _ (by omega) (by omega) ?_
        rw [hz]; simp [zc1, e1, e2]
      · simp (disch := omega) only [q_310_85, b_310_85, b_310_40, ↓w_iconst, ↓w_aload_n_0, ↓w_iload_n_1, ↓w_iload_n_2, ↓w_iload_n_3, ↓w_iinc_3, ↓w_iadd, ↓w_imul, ↓w_getfield, ↓w_iaload, ↓w_goto, ↓w_ifCond_eq, ↓w_if_icmp_eq, ↓w_if_icmp_ge, ↓w_ireturn1, ↓w_invokevirtual_0, ↓w_invokevirtual_1, ↓w_invokevirtual_2, stw_0, stw_i, stw_l, stw_r, ofK0, ofK1, ofK2, lst1, lst2, lkill, kont_none, kont_some, Int.reduceToNat, List.length_cons, List.length_nil, Nat.reduceAdd, Nat.reduceLeDiff, Nat.zero_le, true_and, and_true, if_true, if_false, ne_eq, Int.reduceEq, Int.reduceNeg, not_false_eq_true, not_true_eq_false, ↓reduceIte, Int.reduceLT, Int.reduceLE, and_self, or_true, true_or, or_false, false_or, false_and, and_false, ah_t_w, ah_m_w, ah_n_w, mt_1036a hG.1, mt_1074a hG.1, mt_1074b hG.1, mf_47 hG.1, g_1074 hG, c_281 hG, c_285 hG, c_292 hG, c_287 hG, c_290 hG, w32_i, hlt, e1, e2, zb_t]
        refine hy ?_
        rw [hz]; simp [zc1, e1, e2]
theorem l_310 (hG : MG T nw h) : ∀ (j : Nat) (i : Int) tl, 0 ≤ i → i + j = T 1072 4 → wpB (d + 4) 310 2 (some (.inr (.inr 1036)) :: some (.inl s) :: some (.inl i) :: tl) [] h (fun o h1 => o = .inl (some (.inl (zb (zc2 T nw s j i)))) ∧ h1 = h) := by
  have h8 := hG.2.2.2.1.2.1
  have hn := zn_i hG
  intro j
  induction j with
  | zero =>
    intro i tl h0 h1
    have hlt : ¬ i < T 1072 4 := by omega
    simp (disch := omega) only [q_310_2, b_310_2, q_310_97, b_310_97, ↓w_iconst, ↓w_aload_n_0, ↓w_iload_n_1, ↓w_iload_n_2, ↓w_goto, ↓w_ifCond_eq, ↓w_if_icmp_ne, ↓w_if_icmp_ge, ↓w_ireturn1, ↓w_invokevirtual_0, ↓w_invokevirtual_1, stw_0, stw_i, stw_l, stw_r, ofK0, ofK1, ofK2, lst1, lst2, lkill, kont_none, kont_some, Int.reduceToNat, List.length_cons, List.length_nil, Nat.reduceAdd, Nat.reduceLeDiff, Nat.zero_le, true_and, and_true, if_true, if_false, ne_eq, Int.reduceEq, Int.reduceNeg, not_false_eq_true, not_true_eq_false, ↓reduceIte, Int.reduceLT, Int.reduceLE, and_self, or_true, true_or, or_false, false_or, false_and, and_false, ah_t_w, ah_m_w, ah_n_w, mt_1036a hG.1, c_281 hG, zc2, hlt, zb_f]
  | succ j ih =>
    intro i tl h0 h1
    have ih := fun tl => ih (i + 1) tl (by omega) (by omega)
    have hlt : i < T 1072 4 := by omega
    rw [q_310_2]
    by_cases e1 : zcw T i = 1
    · by_cases e2 : zs T i = s
      · by_cases e3 : nw (2 + 2 * i) = -1
        · simp (disch := omega) only [q_310_91, b_310_91, b_310_2, ↓w_aload_n_0, ↓w_iload_n_1, ↓w_iload_n_2, ↓w_iinc_2, ↓w_goto, ↓w_ifCond_eq, ↓w_if_icmp_ne, ↓w_if_icmp_ge, ↓w_invokevirtual_0, ↓w_invokevirtual_1, stw_0, stw_i, stw_l, stw_r, ofK0, ofK1, ofK2, lst1, lst2, lkill, kont_none, kont_some, Int.reduceToNat, List.length_cons, List.length_nil, Nat.reduceAdd, Nat.reduceLeDiff, Nat.zero_le, true_and, and_true, if_true, if_false, ne_eq, Int.reduceEq, Int.reduceNeg, not_false_eq_true, not_true_eq_false, ↓reduceIte, Int.reduceLT, Int.reduceLE, and_self, or_true, true_or, or_false, false_or, false_and, and_false, ah_t_w, ah_m_w, ah_n_w, mt_1036a hG.1, c_281 hG, c_282 hG, c_284 hG, c_287 hG, w32_i, zc2, hlt, e1, e2, e3]
          exact ih _
        · simp (disch := omega) only [q_310_38, b_310_38, b_310_2, ↓w_iconst, ↓w_aload_n_0, ↓w_iload_n_1, ↓w_iload_n_2, ↓w_istore_n_3, ↓w_nop, ↓w_goto, ↓w_ifCond_eq, ↓w_if_icmp_ne, ↓w_if_icmp_ge, ↓w_invokevirtual_0, ↓w_invokevirtual_1, stw_0, stw_i, stw_l, stw_r, ofK0, ofK1, ofK2, lst1, lst2, lkill, kont_none, kont_some, Int.reduceToNat, List.length_cons, List.length_nil, Nat.reduceAdd, Nat.reduceLeDiff, Nat.zero_le, true_and, and_true, if_true, if_false, ne_eq, Int.reduceEq, Int.reduceNeg, not_false_eq_true, not_true_eq_false, ↓reduceIte, Int.reduceLT, Int.reduceLE, and_self, or_true, true_or, or_false, false_or, false_and, and_false, ah_t_w, ah_m_w, ah_n_w, mt_1036a hG.1, c_281 hG, c_282 hG, c_284 hG, c_287 hG, w32_i, hlt, e1, e2, e3, lst1_0]
          refine l_310i hG ⟨h0, by omega⟩ e3 ?_ ?_ (zn T) 0 _ (by omega) (by omega) rfl
          · intro tl e4
            simp (disch := omega) only [q_310_91, b_310_91, ↓w_iinc_2, ↓w_goto, stw_0, stw_i, stw_l, stw_r, ofK0, ofK1, ofK2, lst1, lst2, lkill, kont_none, kont_some, Int.reduceToNat, List.length_cons, List.length_nil, Nat.reduceAdd, Nat.reduceLeDiff, Nat.zero_le, true_and, and_true, if_true, if_false, ne_eq, Int.reduceEq, Int.reduceNeg, not_false_eq_true, not_true_eq_false, ↓reduceIte, Int.reduceLT, Int.reduceLE, and_self, or_true, true_or, or_false, false_or, false_and, and_false, ah_t_w, ah_m_w, ah_n_w, zc2, e1, e2, e3, e4, w32_i, Bool.false_eq_true]
            exact ih _
          · intro e4
            simp [zc2, e1, e2, e3, e4, zb]
      · simp (disch := omega) only [q_310_91, b_310_91, b_310_2, ↓w_aload_n_0, ↓w_iload_n_1, ↓w_iload_n_2, ↓w_iinc_2, ↓w_goto, ↓w_ifCond_eq, ↓w_if_icmp_ne, ↓w_if_icmp_ge, ↓w_invokevirtual_0, ↓w_invokevirtual_1, stw_0, stw_i, stw_l, stw_r, ofK0, ofK1, ofK2, lst1, lst2, lkill, kont_none, kont_some, Int.reduceToNat, List.length_cons, List.length_nil, Nat.reduceAdd, Nat.reduceLeDiff, Nat.zero_le, true_and, and_true, if_true, if_false, ne_eq, Int.reduceEq, Int.reduceNeg, not_false_eq_true, not_true_eq_false, ↓reduceIte, Int.reduceLT, Int.reduceLE, and_self, or_true, true_or, or_false, false_or, false_and, and_false, ah_t_w, ah_m_w, ah_n_w, mt_1036a hG.1, c_281 hG, c_282 hG, c_284 hG, c_287 hG, w32_i, zc2, hlt, e1, e2]
        exact ih _
    · simp (disch := omega) only [q_310_91, b_310_91, b_310_2, ↓w_aload_n_0, ↓w_iload_n_1, ↓w_iload_n_2, ↓w_iinc_2, ↓w_goto, ↓w_ifCond_eq, ↓w_if_icmp_ne, ↓w_if_icmp_ge, ↓w_invokevirtual_0, ↓w_invokevirtual_1, stw_0, stw_i, stw_l, stw_r, ofK0, ofK1, ofK2, lst1, lst2, lkill, kont_none, kont_some, Int.reduceToNat, List.length_cons, List.length_nil, Nat.reduceAdd, Nat.reduceLeDiff, Nat.zero_le, true_and, and_true, if_true, if_false, ne_eq, Int.reduceEq, Int.reduceNeg, not_false_eq_true, not_true_eq_false, ↓reduceIte, Int.reduceLT, Int.reduceLE, and_self, or_true, true_or, or_false, false_or, false_and, and_false, ah_t_w, ah_m_w, ah_n_w, mt_1036a hG.1, c_281 hG, c_282 hG, c_284 hG, c_287 hG, w32_i, zc2, hlt, e1]
      exact ih _
theorem c_310 (hG : MG T nw h) : wpC (d + 5) 310 [.inr (.inr 1036), .inl s] h Q ↔ Q (.inl (some (.inl (zb (zchk T nw s))))) h := by
  have h8 := hG.2.2.2.1.2.1
  have hn := zn_i hG
  apply CT_iff; apply CT_of; rw [wpC_B]; refine ⟨⟨Nat.zero_lt_succ _, Nat.le_of_ble_eq_true rfl⟩, ?_⟩; simp only [lent]
  simp (disch := omega) only [q_310_0, b_310_0, ↓w_iconst, ↓w_istore_n_2, ↓w_nop, stw_0, stw_i, stw_l, stw_r, ofK0, ofK1, ofK2, lst1, lst2, lkill, kont_none, kont_some, Int.reduceToNat, List.length_cons, List.length_nil, Nat.reduceAdd, Nat.reduceLeDiff, Nat.zero_le, true_and, and_true, if_true, if_false, ne_eq, Int.reduceEq, Int.reduceNeg, not_false_eq_true, not_true_eq_false, ↓reduceIte, Int.reduceLT, Int.reduceLE, and_self, or_true, true_or, or_false, false_or, false_and, and_false, ah_t_w, ah_m_w, ah_n_w]
  exact l_310 hG _ 0 _ (by omega) (by omega)
end M4
