/-! ===== M: moves done and undone; values (printed by gen_57.py) ===== -/
def zdo (T : Int → Int → Int) (nw : Int → Int) (m k : Int) : Int → Int := fun i => if i = 1 then 1 - nw 1 else if i = 3 + 2 * m then k / T 1074 4 else if i = 2 + 2 * m then k % T 1074 4 else if zat T nw (k % T 1074 4) (k / T 1074 4) ≠ -1 ∧ (i = 2 + 2 * zat T nw (k % T 1074 4) (k / T 1074 4) ∨ i = 3 + 2 * zat T nw (k % T 1074 4) (k / T 1074 4)) then -1 else nw i
def zun (r : Int → Int) (m t x y : Int) : Int → Int := fun i => if i = 1 then 1 - r 1 else if i = 3 + 2 * m then y else if i = 2 + 2 * m then x else if t ≠ -1 ∧ i = 3 + 2 * t then r (3 + 2 * m) else if t ≠ -1 ∧ i = 2 + 2 * t then r (2 + 2 * m) else r i
def Wd (l r i : Int) : Prop := (1085 ≤ r ∧ r ≤ 1088) ∧ i = l
/-- a move was done, look l -/
def DO (T : Int → Int → Int) (nw : Int → Int) (l m k : Int) (h h' : AH) : Prop := ah_m h' 1083 = zdo T nw m k ∧ ah_m h' 1085 l = m ∧ ah_m h' 1086 l = nw (2 + 2 * m) ∧ ah_m h' 1087 l = nw (3 + 2 * m) ∧ ah_m h' 1088 l = zat T nw (k % T 1074 4) (k / T 1074 4) ∧ Off (fun r i => r = 1083 ∨ Wd l r i) h h'
def Wv (j r i : Int) : Prop := (1085 ≤ r ∧ r ≤ 1088) ∧ 1 ≤ i ∧ i ≤ j
section M5
variable {d : Nat} {h h0 : AH} {Q : QQ} {x y z m k s l : Int} {T : Int → Int → Int} {nw : Int → Int}
set_option maxHeartbeats 2000000
theorem zkk (hG : MG T nw h) (hk : 0 ≤ k) (hk2 : k < zP T) : 0 < T 1074 4 ∧ (0 ≤ k % T 1074 4 ∧ k % T 1074 4 < T 1074 4) ∧ (0 ≤ k / T 1074 4 ∧ k / T 1074 4 < T 1074 5) ∧ k.tmod (T 1074 4) = k % T 1074 4 ∧ k.tdiv (T 1074 4) = k / T 1074 4 := by
  have b4 := hG.2.2.2.1.2.2.2.1
  rw [zP_i hG] at hk2
  have hC : 0 < T 1074 4 := by
    rcases Int.lt_or_le 0 (T 1074 4) with g | g
    · exact g
    · have : T 1074 4 = 0 := by omega
      rw [this, Int.zero_mul] at hk2; omega
  exact ⟨hC, ⟨Int.emod_nonneg k (by omega), Int.emod_lt_of_pos k hC⟩, ⟨Int.ediv_nonneg hk (by omega), Int.ediv_lt_of_lt_mul hC (by rw [Int.mul_comm]; exact hk2)⟩, Int.tmod_eq_emod_of_nonneg hk, Int.tdiv_eq_ediv_of_nonneg hk⟩
theorem zat_b (hG : MG T nw h) : -1 ≤ zat T nw x y ∧ (zat T nw x y = -1 ∨ (0 ≤ zat T nw x y ∧ zat T nw x y < T 1072 4)) := by
  have b := @zman_b x y nw (T 1072 4).toNat 0 (Int.le_refl 0)
  have := hG.2.2.2.1.2.1
  unfold zat; omega
theorem zman_at : ∀ (j : Nat) (i : Int), zman nw x y j i ≠ -1 → nw (2 + 2 * zman nw x y j i) = x ∧ nw (3 + 2 * zman nw x y j i) = y := by
  intro j
  induction j with
  | zero => intro i hn; exact absurd rfl hn
  | succ j ih =>
    intro i hn
    by_cases e : nw (2 + 2 * i) = x ∧ nw (3 + 2 * i) = y
    · simp only [zman, e, and_self, if_true]
    · simp only [zman, e, if_false] at hn ⊢; exact ih _ hn
theorem zat_at (hn : zat T nw x y ≠ -1) : nw (2 + 2 * zat T nw x y) = x ∧ nw (3 + 2 * zat T nw x y) = y := zman_at _ _ hn
theorem zman_no : ∀ (j : Nat) (i : Int), zman nw x y j i = -1 → 0 ≤ i → ∀ m, i ≤ m → m < i + j → ¬ (nw (2 + 2 * m) = x ∧ nw (3 + 2 * m) = y) := by
  intro j
  induction j with
  | zero => intro i hn h0 m h1 h2; omega
  | succ j ih =>
    intro i hn h0 m h1 h2
    by_cases e : nw (2 + 2 * i) = x ∧ nw (3 + 2 * i) = y
    · simp only [zman, e, and_self, if_true] at hn; omega
    · simp only [zman, e, if_false] at hn
      rcases Int.lt_or_le i m with g | g
      · exact ih _ hn (by omega) m (by omega) (by omega)
      · have : m = i := by omega
        rw [this]; exact e
theorem zat_no (hG : MG T nw h) (hn : zat T nw x y = -1) (h1 : 0 ≤ m) (h2 : m < T 1072 4) : ¬ (nw (2 + 2 * m) = x ∧ nw (3 + 2 * m) = y) := by
  have := hG.2.2.2.1.2.1
  exact zman_no _ _ hn (Int.le_refl 0) m h1 (by omega)
theorem zun_do (hm : 0 ≤ m) : zun (zdo T nw m k) m (zat T nw (k % T 1074 4) (k / T 1074 4)) (nw (2 + 2 * m)) (nw (3 + 2 * m)) = nw := by
  have g := @zat_at (k % T 1074 4) (k / T 1074 4) T nw
  generalize e : zat T nw (k % T 1074 4) (k / T 1074 4) = t at *
  funext i
  unfold zun
  by_cases e1 : i = 1
  · simp only [e1, if_true, zdo]; omega
  · by_cases e2 : i = 3 + 2 * m
    · simp only [e1, e2, if_true, if_false]; split <;> omega
    · by_cases e3 : i = 2 + 2 * m
      · rw [if_neg e1, if_neg e2, if_pos e3, e3]
      · rw [if_neg e1, if_neg e2, if_neg e3]
        by_cases e4 : t = -1
        · simp only [e4, ne_eq, not_true_eq_false, false_and, if_false, zdo, e, e1, e2, e3]
        · have g := g e4
          by_cases e5 : i = 3 + 2 * t
          · rw [if_pos ⟨e4, e5⟩, e5, g.2]
            unfold zdo
            rw [if_neg (by omega), if_pos rfl]
          · rw [if_neg (fun q => e5 q.2)]
            by_cases e6 : i = 2 + 2 * t
            · rw [if_pos ⟨e4, e6⟩, e6, g.1]
              unfold zdo
              rw [if_neg (by omega), if_neg (by omega), if_pos rfl]
            · rw [if_neg (fun q => e6 q.2)]
              unfold zdo
              rw [e, if_neg e1, if_neg e2, if_neg e3, if_neg (fun q => q.2.elim e6 e5)]
theorem NV_do (hG : MG T nw h) (h1 : 0 ≤ m) (h2 : m < T 1072 4) (hk : 0 ≤ k) (hk2 : k < zP T) : NV T (zdo T nw m k) := by
  have hN := hG.2.2.2.2
  have hk := zkk hG hk hk2
  have h4 := hG.2.2.2.1.2.2.2.1; have h5 := hG.2.2.2.1.2.2.2.2.1; have h8 := hG.2.2.2.1.2.1
  have hb := @zat_b h (k % T 1074 4) (k / T 1074 4) T nw hG
  have hno := fun e q a b => @zat_no h (k % T 1074 4) (k / T 1074 4) q T nw hG e a b
  have hat := @zat_at (k % T 1074 4) (k / T 1074 4) T nw
  generalize e : zat T nw (k % T 1074 4) (k / T 1074 4) = t at *
  generalize ex : k % T 1074 4 = X at *
  generalize ey : k / T 1074 4 = Y at *
  have v2 : ∀ q, 0 ≤ q → zdo T nw m k (2 + 2 * q) = if q = m then X else if t ≠ -1 ∧ q = t then -1 else nw (2 + 2 * q) := by
    intro q hq
    unfold zdo
    rw [ex, ey, e]
    repeat' split
    all_goals (first | rfl | omega)
  have v3 : ∀ q, 0 ≤ q → zdo T nw m k (3 + 2 * q) = if q = m then Y else if t ≠ -1 ∧ q = t then -1 else nw (3 + 2 * q) := by
    intro q hq
    unfold zdo
    rw [ex, ey, e]
    repeat' split
    all_goals (first | rfl | omega)
  refine ⟨fun q a b => ?_, fun q a b => ?_, fun q p a b a' b' hne hq => ?_, ?_⟩
  · rw [v2 q a, v3 q a]
    have := hN.1 q a b
    split
    · omega
    · split <;> omega
  · rw [v2 q a, v3 q a]
    have := hN.2.1 q a b
    split
    · omega
    · split <;> omega
  · rw [v2 q a] at hq
    rw [v2 q a, v3 q a, v2 p a', v3 p a']
    have g1 := hN.2.2.1 q p a b a' b' hne
    have g2 := hN.2.1 q a b
    have g3 := hN.2.1 p a' b'
    have g4 := fun e => hno e q a b
    have g5 := fun e => hno e p a' b'
    by_cases e1 : q = m
    · rw [if_pos e1, if_pos e1]
      have e2 : ¬ p = m := by omega
      rw [if_neg e2, if_neg e2]
      split
      · omega
      · rename_i e3
        by_cases e4 : t = -1
        · have := g5 e4; omega
        · have g6 := hN.2.2.1 t p (by omega) (by omega) a' b' (by omega)
          have := hat e4
          omega
    · rw [if_neg e1, if_neg e1]
      rw [if_neg e1] at hq
      by_cases e3 : t ≠ -1 ∧ q = t
      · rw [if_pos e3] at hq; exact absurd rfl hq
      · rw [if_neg e3] at hq
        rw [if_neg e3, if_neg e3]
        by_cases e2 : p = m
        · rw [if_pos e2, if_pos e2]
          by_cases e4 : t = -1
          · have := g4 e4; omega
          · have g6 := hN.2.2.1 t q (by omega) (by omega) a b (by omega)
            have := hat e4
            omega
        · rw [if_neg e2, if_neg e2]
          split
          · omega
          · exact g1 hq
  · have := hN.2.2.2
    unfold zdo; rw [if_pos rfl]; omega
theorem c_309 (hG : MG T nw h) (h1 : 0 ≤ m) (h2 : m < 8) (hk : 0 ≤ k) (hk2 : k < zP T) (l1 : 0 ≤ l) (l2 : l < 5) (hQ : ∀ h', DO T nw l m k h h' → Q (.inl none) h') : wpC (d + 3) 309 [.inr (.inr 1036), .inl l, .inl m, .inl k] h Q := by
  have b4 := hG.2.2.2.1.2.2.2.1; have b5 := hG.2.2.2.1.2.2.2.2.1; have h8 := hG.2.2.2.1.2.1
  obtain ⟨hC, hx, hy, t1, t2⟩ := zkk hG hk hk2
  have hC0 : T 1074 4 = 0 ↔ False := ⟨fun e => by omega, False.elim⟩
  have hb := @zat_b h (k % T 1074 4) (k / T 1074 4) T nw hG
  have hs := hG.2.2.2.2.2.2.2
  have hG1 : ∀ z, MG T nw (ah_w h 1085 l z) := fun z => MG_w' hG (by decide)
  have hG2 : ∀ z w, MG T nw (ah_w (ah_w h 1085 l z) 1086 l w) := fun z w => MG_w' (hG1 z) (by decide)
  have hz : ∀ i, zdo T nw m k i = if i = 1 then 1 - nw 1 else if i = 3 + 2 * m then k / T 1074 4 else if i = 2 + 2 * m then k % T 1074 4 else if zat T nw (k % T 1074 4) (k / T 1074 4) ≠ -1 ∧ (i = 2 + 2 * zat T nw (k % T 1074 4) (k / T 1074 4) ∨ i = 3 + 2 * zat T nw (k % T 1074 4) (k / T 1074 4)) then -1 else nw i := fun i => rfl
  unfold DO at hQ
  generalize k % T 1074 4 = X at *
  generalize k / T 1074 4 = Y at *
  generalize hat : zat T nw X Y = t at *
  have f2 : (1 = 2 + 2 * m) = False := by simp; omega
  have f3 : (1 = 2 + 2 * m + 1) = False := by simp; omega
  rw [wpC_B]; refine ⟨⟨Nat.zero_lt_succ _, Nat.le_of_ble_eq_true rfl⟩, ?_⟩; simp only [lent]
  by_cases e1 : t = -1
  · simp (disch := omega) only [q_309_0, b_309_0, q_309_77, b_309_77, q_309_99, b_309_99, ↓w_iconst, ↓w_aload_n_0, ↓w_iload_n_1, ↓w_iload_n_2, ↓w_iload_n_3, ↓w_iload_4, ↓w_iload_5, ↓w_iload_6, ↓w_istore, ↓w_iadd, ↓w_isub, ↓w_imul, ↓w_idiv, ↓w_irem, ↓w_getfield, ↓w_iaload, ↓w_iastore, ↓w_nop, ↓w_if_icmp_eq, ↓w_return, ↓w_invokevirtual_1, ↓w_invokevirtual_2, stw_0, stw_i, stw_l, stw_r, ofK0, ofK1, ofK2, lst1, lst2, lkill, kont_none, kont_some, Int.reduceToNat, List.length_cons, List.length_nil, Nat.reduceAdd, Nat.reduceLeDiff, Nat.zero_le, true_and, and_true, if_true, if_false, ne_eq, Int.reduceEq, Int.reduceNeg, not_false_eq_true, not_true_eq_false, ↓reduceIte, Int.reduceLT, Int.reduceLE, and_self, or_true, true_or, or_false, false_or, false_and, and_false, ah_t_w, ah_m_w, ah_n_w, mt_1036a hG.1, mt_1074a hG.1, mt_1074b hG.1, mf_47 hG.1, mt_1083a hG.1, mt_1083b hG.1, mf_62 hG.1, mt_1085a hG.1, mt_1085b hG.1, mf_64 hG.1, mt_1086a hG.1, mt_1086b hG.1, mf_65 hG.1, mt_1087a hG.1, mt_1087b hG.1, mf_66 hG.1, mt_1088a hG.1, mt_1088b hG.1, mf_67 hG.1, g_1074 hG, g_1083 hG, c_296 hG, c_285 (hG1 _), c_292 (hG2 _ _), w32_i, t1, t2, hC0, hat, e1, f2, f3]
    refine ⟨by omega, by omega, by omega, by omega, by omega, by omega, hQ _ ⟨?_, ?_, ?_, ?_, ?_, ?_⟩⟩
    · funext i
      simp only [hz, ah_m_w, Int.reduceEq, false_and, if_false, true_and, g_1083 hG]
      repeat' split
      all_goals (first | rfl | omega)
    · simp [ah_m_w]
    · simp [ah_m_w]
    · simp [ah_m_w]
    · simp [ah_m_w, e1]
    · repeat' (first | exact Off_rfl | refine Off_w ?_ (by unfold Wd; omega))
  · have f4 : (1 = 2 + 2 * t) = False := by simp; omega
    have f5 : (1 = 2 + 2 * t + 1) = False := by simp; omega
    simp (disch := omega) only [q_309_0, b_309_0, q_309_77, b_309_77, q_309_99, b_309_99, ↓w_iconst, ↓w_aload_n_0, ↓w_iload_n_1, ↓w_iload_n_2, ↓w_iload_n_3, ↓w_iload_4, ↓w_iload_5, ↓w_iload_6, ↓w_istore, ↓w_iadd, ↓w_isub, ↓w_imul, ↓w_idiv, ↓w_irem, ↓w_getfield, ↓w_iaload, ↓w_iastore, ↓w_nop, ↓w_if_icmp_eq, ↓w_return, ↓w_invokevirtual_1, ↓w_invokevirtual_2, stw_0, stw_i, stw_l, stw_r, ofK0, ofK1, ofK2, lst1, lst2, lkill, kont_none, kont_some, Int.reduceToNat, List.length_cons, List.length_nil, Nat.reduceAdd, Nat.reduceLeDiff, Nat.zero_le, true_and, and_true, if_true, if_false, ne_eq, Int.reduceEq, Int.reduceNeg, not_false_eq_true, not_true_eq_false, ↓reduceIte, Int.reduceLT, Int.reduceLE, and_self, or_true, true_or, or_false, false_or, false_and, and_false, ah_t_w, ah_m_w, ah_n_w, mt_1036a hG.1, mt_1074a hG.1, mt_1074b hG.1, mf_47 hG.1, mt_1083a hG.1, mt_1083b hG.1, mf_62 hG.1, mt_1085a hG.1, mt_1085b hG.1, mf_64 hG.1, mt_1086a hG.1, mt_1086b hG.1, mf_65 hG.1, mt_1087a hG.1, mt_1087b hG.1, mf_66 hG.1, mt_1088a hG.1, mt_1088b hG.1, mf_67 hG.1, g_1074 hG, g_1083 hG, c_296 hG, c_285 (hG1 _), c_292 (hG2 _ _), w32_i, t1, t2, hC0, hat, e1, f2, f3, f4, f5]
    refine ⟨by omega, by omega, by omega, by omega, by omega, by omega, by omega, by omega, hQ _ ⟨?_, ?_, ?_, ?_, ?_, ?_⟩⟩
    · funext i
      simp only [hz, ah_m_w, Int.reduceEq, false_and, if_false, true_and, g_1083 hG]
      repeat' split
      all_goals (first | rfl | omega)
    · simp [ah_m_w]
    · simp [ah_m_w]
    · simp [ah_m_w]
    · simp [ah_m_w]
    · repeat' (first | exact Off_rfl | refine Off_w ?_ (by unfold Wd; omega))
theorem c_311 (hM : MI h) (l1 : 0 ≤ l) (l2 : l < 5) (hm : 0 ≤ ah_m h 1085 l ∧ ah_m h 1085 l < 8) (ht : -1 ≤ ah_m h 1088 l ∧ ah_m h 1088 l < 8) (hs : 0 ≤ ah_m h 1083 1 ∧ ah_m h 1083 1 ≤ 1) (hQ : ∀ h', ah_m h' 1083 = zun (ah_m h 1083) (ah_m h 1085 l) (ah_m h 1088 l) (ah_m h 1086 l) (ah_m h 1087 l) → Off (fun r _ => r = 1083) h h' → Q (.inl none) h') : wpC (d + 2) 311 [.inr (.inr 1036), .inl l] h Q := by
  have hM1 : ∀ i z, MI (ah_w h 1083 i z) := fun i z => MI_w hM (by unfold fre; omega)
  generalize em : ah_m h 1085 l = m at *
  generalize et : ah_m h 1088 l = t at *
  generalize ex : ah_m h 1086 l = x at *
  generalize ey : ah_m h 1087 l = y at *
  have f2 : (1 = 2 + 2 * m) = False := by simp; omega
  have f3 : (1 = 2 + 2 * m + 1) = False := by simp; omega
  have hw := fun a b => @w32_i a b
  rw [wpC_B]; refine ⟨⟨Nat.zero_lt_succ _, Nat.le_of_ble_eq_true rfl⟩, ?_⟩; simp only [lent]
  by_cases e1 : t = -1
  · simp (disch := omega) only [q_311_0, b_311_0, q_311_51, b_311_51, ↓w_iconst, ↓w_aload_n_0, ↓w_iload_n_1, ↓w_iload_n_2, ↓w_iload_n_3, ↓w_istore_n_2, ↓w_istore_n_3, ↓w_iadd, ↓w_isub, ↓w_imul, ↓w_getfield, ↓w_iaload, ↓w_iastore, ↓w_nop, ↓w_if_icmp_eq, ↓w_return, ↓w_invokevirtual_1, stw_0, stw_i, stw_l, stw_r, ofK0, ofK1, ofK2, lst1, lst2, lkill, kont_none, kont_some, Int.reduceToNat, List.length_cons, List.length_nil, Nat.reduceAdd, Nat.reduceLeDiff, Nat.zero_le, true_and, and_true, if_true, if_false, ne_eq, Int.reduceEq, Int.reduceNeg, not_false_eq_true, not_true_eq_false, ↓reduceIte, Int.reduceLT, Int.reduceLE, and_self, or_true, true_or, or_false, false_or, false_and, and_false, ah_t_w, ah_m_w, ah_n_w, mt_1036a hM, mt_1083a hM, mt_1083b hM, mf_62 hM, mt_1085a hM, mt_1085b hM, mf_64 hM, mt_1086a hM, mt_1086b hM, mf_65 hM, mt_1087a hM, mt_1087b hM, mf_66 hM, mt_1088a hM, mt_1088b hM, mf_67 hM, k_285 hM, k_292 (hM1 _ _), w32_i, em, et, ex, ey, e1, f2, f3]
    refine ⟨by omega, by omega, by omega, by omega, by omega, by omega, hQ _ ?_ ?_⟩
    · funext i
      simp only [zun, ah_m_w, Int.reduceEq, false_and, if_false, true_and]
      repeat' split
      all_goals (first | rfl | omega)
    · repeat' (first | exact Off_rfl | refine Off_w ?_ (by omega))
  · have f4 : (1 = 2 + 2 * t) = False := by simp; omega
    have f5 : (1 = 2 + 2 * t + 1) = False := by simp; omega
    have f6 : (3 + 2 * m = 2 + 2 * t) = False := by simp; omega
    simp (disch := omega) only [q_311_0, b_311_0, q_311_51, b_311_51, ↓w_iconst, ↓w_aload_n_0, ↓w_iload_n_1, ↓w_iload_n_2, ↓w_iload_n_3, ↓w_istore_n_2, ↓w_istore_n_3, ↓w_iadd, ↓w_isub, ↓w_imul, ↓w_getfield, ↓w_iaload, ↓w_iastore, ↓w_nop, ↓w_if_icmp_eq, ↓w_return, ↓w_invokevirtual_1, stw_0, stw_i, stw_l, stw_r, ofK0, ofK1, ofK2, lst1, lst2, lkill, kont_none, kont_some, Int.reduceToNat, List.length_cons, List.length_nil, Nat.reduceAdd, Nat.reduceLeDiff, Nat.zero_le, true_and, and_true, if_true, if_false, ne_eq, Int.reduceEq, Int.reduceNeg, not_false_eq_true, not_true_eq_false, ↓reduceIte, Int.reduceLT, Int.reduceLE, and_self, or_true, true_or, or_false, false_or, false_and, and_false, ah_t_w, ah_m_w, ah_n_w, mt_1036a hM, mt_1083a hM, mt_1083b hM, mf_62 hM, mt_1085a hM, mt_1085b hM, mf_64 hM, mt_1086a hM, mt_1086b hM, mf_65 hM, mt_1087a hM, mt_1087b hM, mf_66 hM, mt_1088a hM, mt_1088b hM, mf_67 hM, k_285 hM, k_292 (hM1 _ _), w32_i, em, et, ex, ey, e1, f2, f3, f4, f5, f6]
    refine ⟨by omega, by omega, by omega, by omega, by omega, by omega, by omega, by omega, hQ _ ?_ ?_⟩
    · funext i
      simp only [zun, ah_m_w, Int.reduceEq, false_and, if_false, true_and]
      repeat' split
      all_goals (first | rfl | omega)
    · repeat' (first | exact Off_rfl | refine Off_w ?_ (by omega))
/-- after a move and what leaves the row alone, the move undone: the row is what it was -/
theorem DO_back {Wb : Int → Int → Prop} {h1 h2 h3 : AH} (hm : 0 ≤ m) (hD : DO T nw l m k h h1) (hb : Off Wb h1 h2) (b1 : ∀ i, ¬ Wb 1083 i) (b2 : ∀ r, ¬ Wb r l) (e3 : ah_m h3 1083 = zun (ah_m h2 1083) (ah_m h2 1085 l) (ah_m h2 1088 l) (ah_m h2 1086 l) (ah_m h2 1087 l)) (ho : Off (fun r _ => r = 1083) h2 h3) (hn : ah_m h 1083 = nw) : ah_m h3 1083 = nw ∧ Off (fun r i => Wb r i ∨ Wd l r i) h h3 := by
  obtain ⟨d1, d2, d3, d4, d5, d6⟩ := hD
  have e4 : ah_m h3 1083 = nw := by
    rw [e3, Off_r hb b1, hb.2 _ _ (b2 _), hb.2 _ _ (b2 _), hb.2 _ _ (b2 _), hb.2 _ _ (b2 _), d1, d2, d3, d4, d5]
    exact zun_do hm
  refine ⟨e4, ho.1.trans (hb.1.trans d6.1), fun r i hw => ?_⟩
  by_cases e : r = 1083
  · rw [e, e4, hn]
  · rw [ho.2 r i e, hb.2 r i (fun w => hw (Or.inl w)), d6.2 r i (fun w => w.elim e (fun w => hw (Or.inr w)))]
theorem MG_do {h1 : AH} (hG : MG T nw h) (h1m : 0 ≤ m) (h2 : m < T 1072 4) (hk : 0 ≤ k) (hk2 : k < zP T) (hD : DO T nw l m k h h1) : MG T (zdo T nw m k) h1 :=
  ⟨MI_off hG.1 hD.2.2.2.2.2 (fun r i w => by unfold Wd at w; unfold fre; omega), (stt_off hD.2.2.2.2.2 (fun r i w => by unfold Wd at w; omega)).trans hG.2.1, hD.1, hG.2.2.2.1, NV_do hG h1m h2 hk hk2⟩
theorem MG_row {h1 : AH} {nw' : Int → Int} (hG : MG T nw h) (e : ah_m h1 1083 = nw') (hN : NV T nw') (ho : Off (fun r _ => r = 1083) h h1) : MG T nw' h1 :=
  ⟨MI_off hG.1 ho (fun r i w => by unfold fre; omega), (stt_off ho (fun r i w => by omega)).trans hG.2.1, e, hG.2.2.2.1, hN⟩
end M5
