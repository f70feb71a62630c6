/-! ===== M: which game it was ===== -/
def zso (tp : Int → Int) (nf : Int) : Nat → Int → Bool
  | 0, _ => true
  | j + 1, k => if 0 ≤ tp k ∧ tp k < nf then zso tp nf j (k + 3) else false
def zsee (tp : Int → Int) (n nf : Int) : Bool := decide (0 < n ∧ n % 3 = 0 ∧ n / 3 ≤ 16) && zso tp nf (n / 3).toNat 0
def zas (nw sr : Int → Int) : Nat → Int → Bool
  | 0, _ => true
  | j + 1, k => if nw (18 + sr (3 * k)) = 256 * sr (3 * k + 1) + sr (3 * k + 2) then zas nw sr j (k + 1) else false
def zpf (P : Int → Bool) : Nat → Int → Int × Int × Int → Int × Int × Int
  | 0, _, b => b
  | j + 1, k, b => zpf P j (k + 1) (if P k = true then (b.1 + 1, (if b.2.1 = -1 then k else b.2.1), k) else b)
def zplp (T : Int → Int → Int) (nw sr : Int → Int) (rm k : Int) : Bool := zas (zdy T nw 1 (zpc T nw k 0 0)) sr rm.toNat 0
/-- what was seen is of fields -/
def SNV (sr : Int → Int) (rm : Int) : Prop := (0 ≤ rm ∧ rm ≤ 16) ∧ (∀ k, 0 ≤ k → k < rm → 0 ≤ sr (3 * k) ∧ sr (3 * k) < 6) ∧ (∀ i, 0 ≤ i → i < 3 * rm → 0 ≤ sr i ∧ sr i ≤ 255)
def TPV (tp : Int → Int) (n : Int) : Prop := (0 ≤ n ∧ n ≤ 1600) ∧ ∀ i, 0 ≤ i → i < n → 0 ≤ tp i ∧ tp i ≤ 255
section SEEN
variable {d : Nat} {h h0 : AH} {Q : QQ} {x y z m k s l w a b v n t p th D0 D1 f : Int} {T : Int → Int → Int} {nw g tp sr : Int → Int} {c : Int × Int × Int}
set_option maxHeartbeats 2000000
theorem l_349a (hG : MG T nw h) (et : ah_m h 1037 = tp) (hn : 0 ≤ n ∧ n ≤ 48) (hv : TPV tp n) {R : Bool} (hQ : ∀ tl, wpB (d + 3) 349 62 (some (.inr (.inr 1036)) :: some (.inl n) :: some (.inl (zb R)) :: tl) [] h Q) :
    ∀ (j : Nat) (k : Int), 0 ≤ k → k + 3 * j = n → zso tp (T 1072 5) j k = R → wpB (d + 3) 349 36 [some (.inr (.inr 1036)), some (.inl n), some (.inl 1), some (.inl k)] [] h Q := by
  intro j
  induction j with
  | zero =>
    intro k k0 k1 hR
    have hlt : ¬ k < n := by omega
    simp only [zso] at hR
    subst hR
    simp (disch := omega) only [q_349_36, b_349_36, ↓w_aload_n_0, ↓w_iload_n_1, ↓w_iload_n_2, ↓w_iload_n_3, ↓w_iinc_3, ↓w_istore_n_2, ↓w_getfield, ↓w_iaload, ↓w_goto, ↓w_ifCond_eq, ↓w_if_icmp_ge, ↓w_invokevirtual_1, stw_0, stw_i, stw_l, stw_r, ofK0, ofK1, ofK2, lst1, lst2, lkill, kont_none, kont_some, Int.reduceToNat, List.length_cons, List.length_nil, Nat.reduceAdd, Nat.reduceLeDiff, Nat.zero_le, true_and, and_true, if_true, if_false, ne_eq, Int.reduceEq, Int.reduceNeg, not_false_eq_true, not_true_eq_false, ↓reduceIte, Int.reduceLT, Int.reduceLE, and_self, or_true, true_or, or_false, false_or, false_and, and_false, ah_t_w, ah_m_w, ah_n_w, lst1_0, List.tail_cons, w32_i, zbd, lst2_0, mt_1036a hG.1, mt_1037a hG.1, mt_1037b hG.1, mf_0 hG.1, c_305 hG, hlt]
    exact hQ _
  | succ j ih =>
    intro k k0 k1 hR
    have hlt : k < n := by omega
    simp only [zso] at hR
    rw [q_349_36]
    by_cases g : 0 ≤ tp k ∧ tp k < T 1072 5
    · rw [if_pos g] at hR
      simp (disch := omega) only [b_349_36, ↓w_aload_n_0, ↓w_iload_n_1, ↓w_iload_n_2, ↓w_iload_n_3, ↓w_iinc_3, ↓w_istore_n_2, ↓w_getfield, ↓w_iaload, ↓w_goto, ↓w_ifCond_eq, ↓w_if_icmp_ge, ↓w_invokevirtual_1, stw_0, stw_i, stw_l, stw_r, ofK0, ofK1, ofK2, lst1, lst2, lkill, kont_none, kont_some, Int.reduceToNat, List.length_cons, List.length_nil, Nat.reduceAdd, Nat.reduceLeDiff, Nat.zero_le, true_and, and_true, if_true, if_false, ne_eq, Int.reduceEq, Int.reduceNeg, not_false_eq_true, not_true_eq_false, ↓reduceIte, Int.reduceLT, Int.reduceLE, and_self, or_true, true_or, or_false, false_or, false_and, and_false, ah_t_w, ah_m_w, ah_n_w, lst1_0, List.tail_cons, w32_i, zbd, lst2_0, mt_1036a hG.1, mt_1037a hG.1, mt_1037b hG.1, mf_0 hG.1, c_305 hG, hlt, et, g]
      exact ih (k + 3) (by omega) (by omega) hR
    · rw [if_neg g] at hR
      subst hR
      simp (disch := omega) only [b_349_36, ↓w_aload_n_0, ↓w_iload_n_1, ↓w_iload_n_2, ↓w_iload_n_3, ↓w_iinc_3, ↓w_istore_n_2, ↓w_getfield, ↓w_iaload, ↓w_goto, ↓w_ifCond_eq, ↓w_if_icmp_ge, ↓w_invokevirtual_1, stw_0, stw_i, stw_l, stw_r, ofK0, ofK1, ofK2, lst1, lst2, lkill, kont_none, kont_some, Int.reduceToNat, List.length_cons, List.length_nil, Nat.reduceAdd, Nat.reduceLeDiff, Nat.zero_le, true_and, and_true, if_true, if_false, ne_eq, Int.reduceEq, Int.reduceNeg, not_false_eq_true, not_true_eq_false, ↓reduceIte, Int.reduceLT, Int.reduceLE, and_self, or_true, true_or, or_false, false_or, false_and, and_false, ah_t_w, ah_m_w, ah_n_w, lst1_0, List.tail_cons, w32_i, zbd, lst2_0, mt_1036a hG.1, mt_1037a hG.1, mt_1037b hG.1, mf_0 hG.1, c_305 hG, hlt, et, if_neg g]
      rw [q_349_36]
      by_cases g2 : k + 3 < n <;> (simp (disch := omega) only [b_349_36, ↓w_aload_n_0, ↓w_iload_n_1, ↓w_iload_n_2, ↓w_iload_n_3, ↓w_iinc_3, ↓w_istore_n_2, ↓w_getfield, ↓w_iaload, ↓w_goto, ↓w_ifCond_eq, ↓w_if_icmp_ge, ↓w_invokevirtual_1, stw_0, stw_i, stw_l, stw_r, ofK0, ofK1, ofK2, lst1, lst2, lkill, kont_none, kont_some, Int.reduceToNat, List.length_cons, List.length_nil, Nat.reduceAdd, Nat.reduceLeDiff, Nat.zero_le, true_and, and_true, if_true, if_false, ne_eq, Int.reduceEq, Int.reduceNeg, not_false_eq_true, not_true_eq_false, ↓reduceIte, Int.reduceLT, Int.reduceLE, and_self, or_true, true_or, or_false, false_or, false_and, and_false, ah_t_w, ah_m_w, ah_n_w, lst1_0, List.tail_cons, w32_i, zbd, lst2_0, mt_1036a hG.1, mt_1037a hG.1, mt_1037b hG.1, mf_0 hG.1, c_305 hG, g2]; exact hQ _)
theorem l_349b (hM : MI h) (hn : 0 ≤ n ∧ n ≤ 48) (hQ : ∀ h' tl, Off (fun r _ => r = 1091) h h' → (∀ i, 0 ≤ i → i < n → ah_m h' 1091 i = ah_m h 1037 i) → wpB d 349 97 (some (.inr (.inr 1036)) :: some (.inl n) :: tl) [] h' Q)  (tl : ALoc) :
    ∀ (j : Nat) (k : Int) h', 0 ≤ k → k + j = n → Off (fun r _ => r = 1091) h h' → (∀ i, 0 ≤ i → i < k → ah_m h' 1091 i = ah_m h 1037 i) → wpB d 349 74 (some (.inr (.inr 1036)) :: some (.inl n) :: some (.inl 1) :: some (.inl k) :: tl) [] h' Q := by
  intro j
  induction j with
  | zero =>
    intro k h' k0 k1 hO hi
    have hlt : ¬ k < n := by omega
    have ek : k = n := by omega
    subst ek
    simp (disch := omega) only [q_349_74, b_349_74, ↓w_aload_n_0, ↓w_iload_n_1, ↓w_iload_n_3, ↓w_iinc_3, ↓w_getfield, ↓w_iaload, ↓w_iastore, ↓w_goto, ↓w_if_icmp_ge, stw_0, stw_i, stw_l, stw_r, ofK0, ofK1, ofK2, lst1, lst2, lkill, kont_none, kont_some, Int.reduceToNat, List.length_cons, List.length_nil, Nat.reduceAdd, Nat.reduceLeDiff, Nat.zero_le, true_and, and_true, if_true, if_false, ne_eq, Int.reduceEq, Int.reduceNeg, not_false_eq_true, not_true_eq_false, ↓reduceIte, Int.reduceLT, Int.reduceLE, and_self, or_true, true_or, or_false, false_or, false_and, and_false, ah_t_w, ah_m_w, ah_n_w, lst1_0, List.tail_cons, w32_i, zbd, lst2_0, hlt]
    exact hQ _ _ hO hi
  | succ j ih =>
    intro k h' k0 k1 hO hi
    have hM' : MI h' := MI_off hM hO (fun r i w => by unfold fre; omega)
    have hlt : k < n := by omega
    rw [q_349_74]
    simp (disch := omega) only [b_349_74, ↓w_aload_n_0, ↓w_iload_n_1, ↓w_iload_n_3, ↓w_iinc_3, ↓w_getfield, ↓w_iaload, ↓w_iastore, ↓w_goto, ↓w_if_icmp_ge, stw_0, stw_i, stw_l, stw_r, ofK0, ofK1, ofK2, lst1, lst2, lkill, kont_none, kont_some, Int.reduceToNat, List.length_cons, List.length_nil, Nat.reduceAdd, Nat.reduceLeDiff, Nat.zero_le, true_and, and_true, if_true, if_false, ne_eq, Int.reduceEq, Int.reduceNeg, not_false_eq_true, not_true_eq_false, ↓reduceIte, Int.reduceLT, Int.reduceLE, and_self, or_true, true_or, or_false, false_or, false_and, and_false, ah_t_w, ah_m_w, ah_n_w, lst1_0, List.tail_cons, w32_i, zbd, lst2_0, mt_1036a hM', mt_1037a hM', mt_1037b hM', mf_0 hM', mt_1091a hM', mt_1091b hM', mf_81 hM', hlt]
    refine ih (k + 1) _ (by omega) (by omega) (Off_w hO rfl) (fun i a b => ?_)
    rw [ah_m_w]; split
    · rename_i e; rw [e.2, hO.2 _ _ (by omega)]
    · exact hi i a (by omega)
/-- the game is seen: refused, or kept -/
theorem c_349 (hG : MG T nw h) (et : ah_m h 1037 = tp) (en : ah_m h 1036 1 = n) (hv : TPV tp n)
    (hQ0 : zsee tp n (T 1072 5) = false → Q (.inl (some (.inl (-1)))) (ah_w (ah_w h 1036 1 0) 1038 1 (w32 (ah_m h 1038 1 + 1))))
    (hQ1 : ∀ h', zsee tp n (T 1072 5) = true → Off (fun r i => r = 1091 ∨ (r = 1036 ∧ (i = 1 ∨ i = 80))) h h' → ah_m h' 1036 1 = 0 → ah_m h' 1036 80 = n / 3 → (∀ i, 0 ≤ i → i < n → ah_m h' 1091 i = tp i) → Q (.inl (some (.inl (n / 3)))) h') : wpC (d + 4) 349 [.inr (.inr 1036)] h Q := by
  have hG1 : MG T nw (ah_w h 1036 1 0) := MG_f hG (by omega)
  have et1 : ah_m (ah_w h 1036 1 0) 1037 = tp := by rw [← et]; funext i; rw [ah_m_w, if_neg (by omega)]
  have hv1 := hv.1
  have e3 : n.tmod 3 = n % 3 := Int.tmod_eq_emod_of_nonneg (by omega)
  have e4 : n.tdiv 3 = n / 3 := Int.tdiv_eq_ediv_of_nonneg (by omega)
  have e38 : ah_m (ah_w h 1036 1 0) 1038 1 = ah_m h 1038 1 := by rw [ah_m_w, if_neg (by omega)]
  unfold zsee at hQ0 hQ1
  rw [wpC_B]; refine ⟨⟨Nat.zero_lt_succ _, Nat.le_of_ble_eq_true rfl⟩, ?_⟩; simp only [lent]
  have no : ∀ tl, zsee tp n (T 1072 5) = false → wpB (d + 3) 349 62 (some (.inr (.inr 1036)) :: some (.inl n) :: some (.inl 0) :: tl) [] (ah_w h 1036 1 0) Q := by
    intro tl e
    simp (disch := omega) only [q_349_62, b_349_62, ↓w_iconst, ↓w_aload_n_0, ↓w_iload_n_2, ↓w_ifCond_ne, ↓w_ireturn0, ↓w_invokevirtual_1, stw_0, stw_i, stw_l, stw_r, ofK0, ofK1, ofK2, lst1, lst2, lkill, kont_none, kont_some, Int.reduceToNat, List.length_cons, List.length_nil, Nat.reduceAdd, Nat.reduceLeDiff, Nat.zero_le, true_and, and_true, if_true, if_false, ne_eq, Int.reduceEq, Int.reduceNeg, not_false_eq_true, not_true_eq_false, ↓reduceIte, Int.reduceLT, Int.reduceLE, and_self, or_true, true_or, or_false, false_or, false_and, and_false, ah_t_w, ah_m_w, ah_n_w, lst1_0, List.tail_cons, w32_i, zbd, lst2_0, mt_1036a hG.1, c_350 hG1.1, e38]
    exact hQ0 e
  have no2 : zsee tp n (T 1072 5) = false → wpB (d + 3) 349 36 [some (.inr (.inr 1036)), some (.inl n), some (.inl 0), some (.inl 0)] [] (ah_w h 1036 1 0) Q := by
    intro e
    rw [q_349_36]
    by_cases g : 0 < n <;> (simp (disch := omega) only [b_349_36, ↓w_aload_n_0, ↓w_iload_n_1, ↓w_iload_n_2, ↓w_iload_n_3, ↓w_iinc_3, ↓w_istore_n_2, ↓w_getfield, ↓w_iaload, ↓w_goto, ↓w_ifCond_eq, ↓w_if_icmp_ge, ↓w_invokevirtual_1, stw_0, stw_i, stw_l, stw_r, ofK0, ofK1, ofK2, lst1, lst2, lkill, kont_none, kont_some, Int.reduceToNat, List.length_cons, List.length_nil, Nat.reduceAdd, Nat.reduceLeDiff, Nat.zero_le, true_and, and_true, if_true, if_false, ne_eq, Int.reduceEq, Int.reduceNeg, not_false_eq_true, not_true_eq_false, ↓reduceIte, Int.reduceLT, Int.reduceLE, and_self, or_true, true_or, or_false, false_or, false_and, and_false, ah_t_w, ah_m_w, ah_n_w, lst1_0, List.tail_cons, w32_i, zbd, lst2_0, mt_1036a hG1.1, mt_1037a hG1.1, mt_1037b hG1.1, mf_0 hG1.1, c_305 hG1, g]; exact no _ e)
  by_cases g1 : 0 < n
  · by_cases g2 : n % 3 = 0
    · by_cases g3 : n / 3 ≤ 16
      · have g3' : ¬ 16 < n / 3 := by omega
        have gd : decide (0 < n ∧ n % 3 = 0 ∧ n / 3 ≤ 16) = true := by simp [g1, g2, g3]
        simp (disch := omega) only [q_349_0, b_349_0, q_349_33, b_349_33, ↓w_iconst, ↓w_bipush, ↓w_aload_n_0, ↓w_iload_n_1, ↓w_istore_n_1, ↓w_istore_n_2, ↓w_istore_n_3, ↓w_idiv, ↓w_irem, ↓w_getfield, ↓w_putfield_0, ↓w_nop, ↓w_goto, ↓w_ifCond_ne, ↓w_if_icmp_gt, ↓w_ifCond_le, stw_0, stw_i, stw_l, stw_r, ofK0, ofK1, ofK2, lst1, lst2, lkill, kont_none, kont_some, Int.reduceToNat, List.length_cons, List.length_nil, Nat.reduceAdd, Nat.reduceLeDiff, Nat.zero_le, true_and, and_true, if_true, if_false, ne_eq, Int.reduceEq, Int.reduceNeg, not_false_eq_true, not_true_eq_false, ↓reduceIte, Int.reduceLT, Int.reduceLE, and_self, or_true, true_or, or_false, false_or, false_and, and_false, ah_t_w, ah_m_w, ah_n_w, lst1_0, List.tail_cons, w32_i, zbd, lst2_0, mt_1036a hG.1, en, e3, e4, g1, g2, g3, g3']
        refine l_349a hG1 et1 (by omega) hv (R := zso tp (T 1072 5) (n / 3).toNat 0) (fun tl => ?_) (n / 3).toNat 0 (by omega) (by omega) rfl
        cases e5 : zso tp (T 1072 5) (n / 3).toNat 0
        · exact no _ (by unfold zsee; rw [gd, e5]; rfl)
        · simp (disch := omega) only [q_349_62, b_349_62, q_349_72, b_349_72, ↓w_iconst, ↓w_aload_n_0, ↓w_iload_n_2, ↓w_istore_n_3, ↓w_nop, ↓w_ifCond_ne, ↓w_ireturn0, ↓w_invokevirtual_1, stw_0, stw_i, stw_l, stw_r, ofK0, ofK1, ofK2, lst1, lst2, lkill, kont_none, kont_some, Int.reduceToNat, List.length_cons, List.length_nil, Nat.reduceAdd, Nat.reduceLeDiff, Nat.zero_le, true_and, and_true, if_true, if_false, ne_eq, Int.reduceEq, Int.reduceNeg, not_false_eq_true, not_true_eq_false, ↓reduceIte, Int.reduceLT, Int.reduceLE, and_self, or_true, true_or, or_false, false_or, false_and, and_false, ah_t_w, ah_m_w, ah_n_w, lst1_0, List.tail_cons, w32_i, zbd, lst2_0, zb_t]
          refine l_349b hG1.1 (by omega) (fun h2 tl hO2 hi => ?_) _ n.toNat 0 _ (by omega) (by omega) Off_rfl (fun i a b => by omega)
          have hM2 : MI h2 := MI_off hG1.1 hO2 (fun r i w => by unfold fre; omega)
          simp (disch := omega) only [q_349_97, b_349_97, ↓w_iconst, ↓w_aload_n_0, ↓w_iload_n_1, ↓w_idiv, ↓w_getfield, ↓w_putfield_0, ↓w_ireturn0, stw_0, stw_i, stw_l, stw_r, ofK0, ofK1, ofK2, lst1, lst2, lkill, kont_none, kont_some, Int.reduceToNat, List.length_cons, List.length_nil, Nat.reduceAdd, Nat.reduceLeDiff, Nat.zero_le, true_and, and_true, if_true, if_false, ne_eq, Int.reduceEq, Int.reduceNeg, not_false_eq_true, not_true_eq_false, ↓reduceIte, Int.reduceLT, Int.reduceLE, and_self, or_true, true_or, or_false, false_or, false_and, and_false, ah_t_w, ah_m_w, ah_n_w, lst1_0, List.tail_cons, w32_i, zbd, lst2_0, mt_1036a hM2, e4]
          refine hQ1 _ (by rw [gd, e5]; rfl) (Off_w (Off_tr (Off_w Off_rfl (by omega)) (Off_mono (fun r i w => by omega) hO2)) (by omega)) ?_ ?_ (fun i a b => ?_)
          · rw [ah_m_w, if_neg (by omega), hO2.2 _ _ (by omega)]; rfl
          · rfl
          · rw [ah_m_w, if_neg (by omega), hi i a b, et1]
      · have g3' : 16 < n / 3 := by omega
        simp (disch := omega) only [q_349_0, b_349_0, q_349_32, b_349_32, q_349_33, b_349_33, ↓w_iconst, ↓w_bipush, ↓w_aload_n_0, ↓w_iload_n_1, ↓w_istore_n_1, ↓w_istore_n_2, ↓w_istore_n_3, ↓w_idiv, ↓w_irem, ↓w_getfield, ↓w_putfield_0, ↓w_nop, ↓w_goto, ↓w_ifCond_ne, ↓w_if_icmp_gt, ↓w_ifCond_le, stw_0, stw_i, stw_l, stw_r, ofK0, ofK1, ofK2, lst1, lst2, lkill, kont_none, kont_some, Int.reduceToNat, List.length_cons, List.length_nil, Nat.reduceAdd, Nat.reduceLeDiff, Nat.zero_le, true_and, and_true, if_true, if_false, ne_eq, Int.reduceEq, Int.reduceNeg, not_false_eq_true, not_true_eq_false, ↓reduceIte, Int.reduceLT, Int.reduceLE, and_self, or_true, true_or, or_false, false_or, false_and, and_false, ah_t_w, ah_m_w, ah_n_w, lst1_0, List.tail_cons, w32_i, zbd, lst2_0, mt_1036a hG.1, en, e3, e4, g1, g2, g3, g3']
        exact no2 (by unfold zsee; simp [g3])
    · simp (disch := omega) only [q_349_0, b_349_0, q_349_32, b_349_32, q_349_33, b_349_33, ↓w_iconst, ↓w_bipush, ↓w_aload_n_0, ↓w_iload_n_1, ↓w_istore_n_1, ↓w_istore_n_2, ↓w_istore_n_3, ↓w_idiv, ↓w_irem, ↓w_getfield, ↓w_putfield_0, ↓w_nop, ↓w_goto, ↓w_ifCond_ne, ↓w_if_icmp_gt, ↓w_ifCond_le, stw_0, stw_i, stw_l, stw_r, ofK0, ofK1, ofK2, lst1, lst2, lkill, kont_none, kont_some, Int.reduceToNat, List.length_cons, List.length_nil, Nat.reduceAdd, Nat.reduceLeDiff, Nat.zero_le, true_and, and_true, if_true, if_false, ne_eq, Int.reduceEq, Int.reduceNeg, not_false_eq_true, not_true_eq_false, ↓reduceIte, Int.reduceLT, Int.reduceLE, and_self, or_true, true_or, or_false, false_or, false_and, and_false, ah_t_w, ah_m_w, ah_n_w, lst1_0, List.tail_cons, w32_i, zbd, lst2_0, mt_1036a hG.1, en, e3, e4, g1, g2]
      exact no2 (by unfold zsee; simp [g2])
  · simp (disch := omega) only [q_349_0, b_349_0, q_349_32, b_349_32, q_349_33, b_349_33, ↓w_iconst, ↓w_bipush, ↓w_aload_n_0, ↓w_iload_n_1, ↓w_istore_n_1, ↓w_istore_n_2, ↓w_istore_n_3, ↓w_idiv, ↓w_irem, ↓w_getfield, ↓w_putfield_0, ↓w_nop, ↓w_goto, ↓w_ifCond_ne, ↓w_if_icmp_gt, ↓w_ifCond_le, stw_0, stw_i, stw_l, stw_r, ofK0, ofK1, ofK2, lst1, lst2, lkill, kont_none, kont_some, Int.reduceToNat, List.length_cons, List.length_nil, Nat.reduceAdd, Nat.reduceLeDiff, Nat.zero_le, true_and, and_true, if_true, if_false, ne_eq, Int.reduceEq, Int.reduceNeg, not_false_eq_true, not_true_eq_false, ↓reduceIte, Int.reduceLT, Int.reduceLE, and_self, or_true, true_or, or_false, false_or, false_and, and_false, ah_t_w, ah_m_w, ah_n_w, lst1_0, List.tail_cons, w32_i, zbd, lst2_0, mt_1036a hG.1, en, e3, e4, g1]
    exact no2 (by unfold zsee; simp [g1])
/-! as seen -/
theorem l_352 (hG : MG T nw h) (es : ah_m h 1091 = sr) (en : ah_m h 1036 80 = n) (hS : SNV sr n) : ∀ (j : Nat) (k : Int), 0 ≤ k → k + j = n → wpB d 352 2 [some (.inr (.inr 1036)), some (.inl k)] [] h (fun o h1 => o = .inl (some (.inl (zb (zas nw sr j k)))) ∧ h1 = h) := by
  have hS1 := hS.1
  intro j
  induction j with
  | zero =>
    intro k k0 k1
    have hlt : ¬ k < n := by omega
    simp (disch := omega) only [q_352_2, b_352_2, q_352_62, b_352_62, ↓w_iconst, ↓w_bipush, ↓w_sipush, ↓w_aload_n_0, ↓w_iload_n_1, ↓w_iadd, ↓w_imul, ↓w_getfield, ↓w_iaload, ↓w_if_icmp_eq, ↓w_if_icmp_ge, ↓w_ireturn1, stw_0, stw_i, stw_l, stw_r, ofK0, ofK1, ofK2, lst1, lst2, lkill, kont_none, kont_some, Int.reduceToNat, List.length_cons, List.length_nil, Nat.reduceAdd, Nat.reduceLeDiff, Nat.zero_le, true_and, and_true, if_true, if_false, ne_eq, Int.reduceEq, Int.reduceNeg, not_false_eq_true, not_true_eq_false, ↓reduceIte, Int.reduceLT, Int.reduceLE, and_self, or_true, true_or, or_false, false_or, false_and, and_false, ah_t_w, ah_m_w, ah_n_w, lst1_0, List.tail_cons, w32_i, zbd, lst2_0, mt_1036a hG.1, mt_1083a hG.1, mt_1083b hG.1, mf_62 hG.1, mt_1091a hG.1, mt_1091b hG.1, mf_81 hG.1, g_1083 hG, en, hlt, zas, zb_t]
  | succ j ih =>
    intro k k0 k1
    have ih := ih (k + 1) (by omega) (by omega)
    have hlt : k < n := by omega
    have b1 := hS.2.1 k k0 hlt
    have b2 := hS.2.2 (3 * k + 1) (by omega) (by omega)
    have b3 := hS.2.2 (3 * k + 2) (by omega) (by omega)
    rw [q_352_2]
    by_cases g : nw (18 + sr (3 * k)) = 256 * sr (3 * k + 1) + sr (3 * k + 2)
    · simp (disch := omega) only [b_352_2, q_352_56, b_352_56, ↓w_iconst, ↓w_bipush, ↓w_sipush, ↓w_aload_n_0, ↓w_iload_n_1, ↓w_iinc_1, ↓w_iadd, ↓w_imul, ↓w_getfield, ↓w_iaload, ↓w_goto, ↓w_if_icmp_eq, ↓w_if_icmp_ge, ↓w_ireturn1, stw_0, stw_i, stw_l, stw_r, ofK0, ofK1, ofK2, lst1, lst2, lkill, kont_none, kont_some, Int.reduceToNat, List.length_cons, List.length_nil, Nat.reduceAdd, Nat.reduceLeDiff, Nat.zero_le, true_and, and_true, if_true, if_false, ne_eq, Int.reduceEq, Int.reduceNeg, not_false_eq_true, not_true_eq_false, ↓reduceIte, Int.reduceLT, Int.reduceLE, and_self, or_true, true_or, or_false, false_or, false_and, and_false, ah_t_w, ah_m_w, ah_n_w, lst1_0, List.tail_cons, w32_i, zbd, lst2_0, mt_1036a hG.1, mt_1083a hG.1, mt_1083b hG.1, mf_62 hG.1, mt_1091a hG.1, mt_1091b hG.1, mf_81 hG.1, g_1083 hG, en, es, hlt, g, zas]
      exact ih
    · simp (disch := omega) only [b_352_2, q_352_56, b_352_56, ↓w_iconst, ↓w_bipush, ↓w_sipush, ↓w_aload_n_0, ↓w_iload_n_1, ↓w_iinc_1, ↓w_iadd, ↓w_imul, ↓w_getfield, ↓w_iaload, ↓w_goto, ↓w_if_icmp_eq, ↓w_if_icmp_ge, ↓w_ireturn1, stw_0, stw_i, stw_l, stw_r, ofK0, ofK1, ofK2, lst1, lst2, lkill, kont_none, kont_some, Int.reduceToNat, List.length_cons, List.length_nil, Nat.reduceAdd, Nat.reduceLeDiff, Nat.zero_le, true_and, and_true, if_true, if_false, ne_eq, Int.reduceEq, Int.reduceNeg, not_false_eq_true, not_true_eq_false, ↓reduceIte, Int.reduceLT, Int.reduceLE, and_self, or_true, true_or, or_false, false_or, false_and, and_false, ah_t_w, ah_m_w, ah_n_w, lst1_0, List.tail_cons, w32_i, zbd, lst2_0, mt_1036a hG.1, mt_1083a hG.1, mt_1083b hG.1, mf_62 hG.1, mt_1091a hG.1, mt_1091b hG.1, mf_81 hG.1, g_1083 hG, en, es, hlt, g, zas, zb_f]
theorem c_352 (hG : MG T nw h) (es : ah_m h 1091 = sr) (en : ah_m h 1036 80 = n) (hS : SNV sr n) : wpC (d + 1) 352 [.inr (.inr 1036)] h Q ↔ Q (.inl (some (.inl (zb (zas nw sr n.toNat 0))))) h := by
  have hS1 := hS.1
  apply CT_iff; apply CT_of; rw [wpC_B]; refine ⟨⟨Nat.zero_lt_succ _, Nat.le_of_ble_eq_true rfl⟩, ?_⟩; simp only [lent]
  simp (disch := omega) only [q_352_0, b_352_0, ↓w_iconst, ↓w_istore_n_1, ↓w_nop, stw_0, stw_i, stw_l, stw_r, ofK0, ofK1, ofK2, lst1, lst2, lkill, kont_none, kont_some, Int.reduceToNat, List.length_cons, List.length_nil, Nat.reduceAdd, Nat.reduceLeDiff, Nat.zero_le, true_and, and_true, if_true, if_false, ne_eq, Int.reduceEq, Int.reduceNeg, not_false_eq_true, not_true_eq_false, ↓reduceIte, Int.reduceLT, Int.reduceLE, and_self, or_true, true_or, or_false, false_or, false_and, and_false, ah_t_w, ah_m_w, ah_n_w, lst1_0, List.tail_cons, w32_i, zbd, lst2_0]
  exact l_352 hG es en hS n.toNat 0 (by omega) (by omega)
theorem l_351 (hH : HV T) (hF : FV nw) (hT : TV T) (hN : NV T nw) (es : ah_m h 1091 = sr) (en : ah_m h 1036 80 = n) (hS : SNV sr n) (hd : nw 0 < 5000) (al : Nat) (hal : al ≤ 200) {R : Int × Int × Int} (hQ : ∀ h' tl, MG T nw h' → Asd nw h' → Off WD h h' → wpB (d + 8) 351 101 (some (.inr (.inr 1036)) :: some (.inl w) :: some (.inl R.1) :: some (.inl R.2.1) :: some (.inl R.2.2) :: tl) [] h' Q) :
    ∀ (j : Nat) (k a b c : Int) tl h', 0 ≤ k → k + j = (al : Int) → 0 ≤ a → a ≤ k → MG T nw h' → Asd nw h' → Off WD h h' → zpf (zplp T nw sr n) j k (a, b, c) = R → wpB (d + 8) 351 45 (some (.inr (.inr 1036)) :: some (.inl w) :: some (.inl a) :: some (.inl b) :: some (.inl c) :: some (.inl al) :: some (.inl k) :: tl) [] h' Q := by
  intro j
  induction j with
  | zero =>
    intro k a b c tl h' k0 k1 a0 a1 hG hA hO hR
    have hlt : ¬ k < (al : Int) := by omega
    simp (disch := omega) only [q_351_45, b_351_45, ↓w_aload_n_0, ↓w_iload_5, ↓w_iload_6, ↓w_iload_7, ↓w_istore, ↓w_goto, ↓w_ifCond_ne, ↓w_if_icmp_ge, ↓w_invokevirtual_0, ↓w_invokevirtual_1, stw_0, stw_i, stw_l, stw_r, ofK0, ofK1, ofK2, lst1, lst2, lkill, kont_none, kont_some, Int.reduceToNat, List.length_cons, List.length_nil, Nat.reduceAdd, Nat.reduceLeDiff, Nat.zero_le, true_and, and_true, if_true, if_false, ne_eq, Int.reduceEq, Int.reduceNeg, not_false_eq_true, not_true_eq_false, ↓reduceIte, Int.reduceLT, Int.reduceLE, and_self, or_true, true_or, or_false, false_or, false_and, and_false, ah_t_w, ah_m_w, ah_n_w, lst1_0, List.tail_cons, w32_i, zbd, lst2_0, hlt]
    simp only [zpf] at hR
    subst hR
    exact hQ _ _ hG hA hO
  | succ j ih =>
    intro k a b c tl h' k0 k1 a0 a1 hG hA hO hR
    have hlt : k < (al : Int) := by omega
    rw [q_351_45]
    simp (disch := omega) only [b_351_45, ↓w_aload_n_0, ↓w_iload_5, ↓w_iload_6, ↓w_iload_7, ↓w_istore, ↓w_goto, ↓w_ifCond_ne, ↓w_if_icmp_ge, ↓w_invokevirtual_0, ↓w_invokevirtual_1, stw_0, stw_i, stw_l, stw_r, ofK0, ofK1, ofK2, lst1, lst2, lkill, kont_none, kont_some, Int.reduceToNat, List.length_cons, List.length_nil, Nat.reduceAdd, Nat.reduceLeDiff, Nat.zero_le, true_and, and_true, if_true, if_false, ne_eq, Int.reduceEq, Int.reduceNeg, not_false_eq_true, not_true_eq_false, ↓reduceIte, Int.reduceLT, Int.reduceLE, and_self, or_true, true_or, or_false, false_or, false_and, and_false, ah_t_w, ah_m_w, ah_n_w, lst1_0, List.tail_cons, w32_i, zbd, lst2_0, mt_1036a hG.1, hlt]
    refine c_308 hG (fun h1 hG1 hO1 hch => ?_)
    have hO1' : Off WD h' h1 := Off_mono (fun r i w => Or.inl (by unfold Wh at w; unfold Wc; omega)) hO1
    have hA1 := Asd_off hA hO1' (fun r i w => WDA w)
    have hv := @zpc_v k (ah_m h' 1036 69) (ah_m h' 1036 70) T nw hT
    simp (disch := omega) only [b_351_45, ↓w_aload_n_0, ↓w_iload_5, ↓w_iload_6, ↓w_iload_7, ↓w_istore, ↓w_goto, ↓w_ifCond_ne, ↓w_if_icmp_ge, ↓w_invokevirtual_0, ↓w_invokevirtual_1, stw_0, stw_i, stw_l, stw_r, ofK0, ofK1, ofK2, lst1, lst2, lkill, kont_none, kont_some, Int.reduceToNat, List.length_cons, List.length_nil, Nat.reduceAdd, Nat.reduceLeDiff, Nat.zero_le, true_and, and_true, if_true, if_false, ne_eq, Int.reduceEq, Int.reduceNeg, not_false_eq_true, not_true_eq_false, ↓reduceIte, Int.reduceLT, Int.reduceLE, and_self, or_true, true_or, or_false, false_or, false_and, and_false, ah_t_w, ah_m_w, ah_n_w, lst1_0, List.tail_cons, w32_i, zbd, lst2_0, mt_1036a hG1.1]
    refine c_332 hG1 hH hF hd hA1.2 hch hv (fun h2 hG2 hF2 hO2 _ => ?_)
    have et := fun i hi => @zdy_th h1 1 T nw _ hG1 hv (by decide) i hi
    rw [zdy_pc] at hG2 hF2 et
    have hO2' : Off WD h' h2 := Off_tr hO1' (Off_mono (fun r i w => Or.inr w) hO2)
    have hA2 := Asd_off hA hO2' (fun r i w => WDA w)
    have hO02 := Off_tr hO hO2'
    have es2 : ah_m h2 1091 = sr := by rw [Off_r hO02 (fun i w => by unfold WD Wc Wy Wq at w; omega)]; exact es
    have en2 : ah_m h2 1036 80 = n := by rw [hO02.2 _ _ (by unfold WD Wc Wy Wq; omega)]; exact en
    simp (disch := omega) only [b_351_45, ↓w_aload_n_0, ↓w_iload_5, ↓w_iload_6, ↓w_iload_7, ↓w_istore, ↓w_goto, ↓w_ifCond_ne, ↓w_if_icmp_ge, ↓w_invokevirtual_0, ↓w_invokevirtual_1, stw_0, stw_i, stw_l, stw_r, ofK0, ofK1, ofK2, lst1, lst2, lkill, kont_none, kont_some, Int.reduceToNat, List.length_cons, List.length_nil, Nat.reduceAdd, Nat.reduceLeDiff, Nat.zero_le, true_and, and_true, if_true, if_false, ne_eq, Int.reduceEq, Int.reduceNeg, not_false_eq_true, not_true_eq_false, ↓reduceIte, Int.reduceLT, Int.reduceLE, and_self, or_true, true_or, or_false, false_or, false_and, and_false, ah_t_w, ah_m_w, ah_n_w, lst1_0, List.tail_cons, w32_i, zbd, lst2_0, mt_1036a hG2.1, c_352 hG2 es2 en2 hS]
    refine t_342 hG2 hA2 hN (fun i hi => by rw [et i hi]) (fun h4 hG4 hA4 hO4 => ?_)
    have hO4' : Off WD h h4 := Off_tr hO02 (Off_mono (fun r i w => Or.inr (Or.inl w)) hO4)
    have ev : zas (zdy T nw 1 (zpc T nw k 0 0)) sr n.toNat 0 = zplp T nw sr n k := rfl
    rw [ev]
    simp only [zpf] at hR
    cases g : zplp T nw sr n k
    · rw [g, if_neg (by decide)] at hR
      simp (disch := omega) only [b_351_45, q_351_95, b_351_95, ↓w_aload_n_0, ↓w_iload_5, ↓w_iload_6, ↓w_iinc_6, ↓w_iload_7, ↓w_istore, ↓w_goto, ↓w_ifCond_ne, ↓w_if_icmp_ge, ↓w_invokevirtual_0, ↓w_invokevirtual_1, stw_0, stw_i, stw_l, stw_r, ofK0, ofK1, ofK2, lst1, lst2, lkill, kont_none, kont_some, Int.reduceToNat, List.length_cons, List.length_nil, Nat.reduceAdd, Nat.reduceLeDiff, Nat.zero_le, true_and, and_true, if_true, if_false, ne_eq, Int.reduceEq, Int.reduceNeg, not_false_eq_true, not_true_eq_false, ↓reduceIte, Int.reduceLT, Int.reduceLE, and_self, or_true, true_or, or_false, false_or, false_and, and_false, ah_t_w, ah_m_w, ah_n_w, lst1_0, List.tail_cons, w32_i, zbd, lst2_0, zb_f]
      exact ih (k + 1) _ _ _ _ _ (by omega) (by omega) a0 (by omega) hG4 hA4 hO4' hR
    · rw [g, if_pos rfl] at hR
      by_cases g2 : b = -1
      · rw [if_pos g2] at hR
        simp (disch := omega) only [b_351_45, q_351_80, b_351_80, q_351_91, b_351_91, q_351_95, b_351_95, ↓w_iconst, ↓w_aload_n_0, ↓w_iinc_2, ↓w_iload_n_3, ↓w_iload_5, ↓w_iload_6, ↓w_iinc_6, ↓w_iload_7, ↓w_istore, ↓w_istore_n_3, ↓w_nop, ↓w_goto, ↓w_ifCond_ne, ↓w_if_icmp_ne, ↓w_if_icmp_ge, ↓w_invokevirtual_0, ↓w_invokevirtual_1, stw_0, stw_i, stw_l, stw_r, ofK0, ofK1, ofK2, lst1, lst2, lkill, kont_none, kont_some, Int.reduceToNat, List.length_cons, List.length_nil, Nat.reduceAdd, Nat.reduceLeDiff, Nat.zero_le, true_and, and_true, if_true, if_false, ne_eq, Int.reduceEq, Int.reduceNeg, not_false_eq_true, not_true_eq_false, ↓reduceIte, Int.reduceLT, Int.reduceLE, and_self, or_true, true_or, or_false, false_or, false_and, and_false, ah_t_w, ah_m_w, ah_n_w, lst1_0, List.tail_cons, w32_i, zbd, lst2_0, zb_t, g2]
        exact ih (k + 1) _ _ _ _ _ (by omega) (by omega) (by omega) (by omega) hG4 hA4 hO4' hR
      · rw [if_neg g2] at hR
        simp (disch := omega) only [b_351_45, q_351_80, b_351_80, q_351_91, b_351_91, q_351_95, b_351_95, ↓w_iconst, ↓w_aload_n_0, ↓w_iinc_2, ↓w_iload_n_3, ↓w_iload_5, ↓w_iload_6, ↓w_iinc_6, ↓w_iload_7, ↓w_istore, ↓w_istore_n_3, ↓w_nop, ↓w_goto, ↓w_ifCond_ne, ↓w_if_icmp_ne, ↓w_if_icmp_ge, ↓w_invokevirtual_0, ↓w_invokevirtual_1, stw_0, stw_i, stw_l, stw_r, ofK0, ofK1, ofK2, lst1, lst2, lkill, kont_none, kont_some, Int.reduceToNat, List.length_cons, List.length_nil, Nat.reduceAdd, Nat.reduceLeDiff, Nat.zero_le, true_and, and_true, if_true, if_false, ne_eq, Int.reduceEq, Int.reduceNeg, not_false_eq_true, not_true_eq_false, ↓reduceIte, Int.reduceLT, Int.reduceLE, and_self, or_true, true_or, or_false, false_or, false_and, and_false, ah_t_w, ah_m_w, ah_n_w, lst1_0, List.tail_cons, w32_i, zbd, lst2_0, zb_t, g2]
        exact ih (k + 1) _ _ _ _ _ (by omega) (by omega) (by omega) (by omega) hG4 hA4 hO4' hR
def zplay (T : Int → Int → Int) (nw sr : Int → Int) (isb n : Int) : Int × Int × Int := zpf (zplp T nw sr n) (if isb = 0 then 0 else zall T nw) 0 (0, -1, -1)
theorem c_351 (hG : MG T nw h) (hF : FV nw) (hH : HV T) (hX : MX h) (hd : nw 0 < 5000) (es : ah_m h 1091 = sr) (en : ah_m h 1036 80 = n) (hS : SNV sr n)
    (hQ : ∀ h', MG T nw h' → MX h' → Off WT h h' → Q (.inl (some (.inl (if 0 ≤ w ∧ w ≤ 2 then (if w = 0 then (zplay T nw sr (ah_m h 1036 58) n).1 else if w = 1 then (zplay T nw sr (ah_m h 1036 58) n).2.1 else (zplay T nw sr (ah_m h 1036 58) n).2.2) else -1)))) h') : wpC (d + 9) 351 [.inr (.inr 1036), .inl w] h Q := by
  have hT := hG.2.2.2.1
  have hzb := @zall_b T nw hT
  rw [wpC_B]; refine ⟨⟨Nat.zero_lt_succ _, Nat.le_of_ble_eq_true rfl⟩, ?_⟩; simp only [lent]
  by_cases e2 : 0 ≤ w ∧ w ≤ 2
  · rw [if_pos e2] at hQ
    have go : ∀ al : Nat, al = (if ah_m h 1036 58 = 0 then 0 else zall T nw) → wpB (d + 8) 351 36 [some (.inr (.inr 1036)), some (.inl w), some (.inl 0), some (.inl (-1)), some (.inl (-1))] [.inl al] h Q := by
      intro al eal
      have hal : al ≤ 200 := by rw [eal]; split <;> omega
      unfold zplay at hQ
      rw [← eal] at hQ
      simp (disch := omega) only [q_351_36, b_351_36, ↓w_iconst, ↓w_aload_n_0, ↓w_istore, ↓w_nop, ↓w_invokevirtual_0, stw_0, stw_i, stw_l, stw_r, ofK0, ofK1, ofK2, lst1, lst2, lkill, kont_none, kont_some, Int.reduceToNat, List.length_cons, List.length_nil, Nat.reduceAdd, Nat.reduceLeDiff, Nat.zero_le, true_and, and_true, if_true, if_false, ne_eq, Int.reduceEq, Int.reduceNeg, not_false_eq_true, not_true_eq_false, ↓reduceIte, Int.reduceLT, Int.reduceLE, and_self, or_true, true_or, or_false, false_or, false_and, and_false, ah_t_w, ah_m_w, ah_n_w, lst1_0, List.tail_cons, w32_i, zbd, lst2_0, mt_1036a hG.1]
      refine t_329' hG (fun h1 hG1 hA1 hO1 hd1 => ?_)
      simp (disch := omega) only [b_351_36, ↓w_iconst, ↓w_aload_n_0, ↓w_istore, ↓w_nop, ↓w_invokevirtual_0, stw_0, stw_i, stw_l, stw_r, ofK0, ofK1, ofK2, lst1, lst2, lkill, kont_none, kont_some, Int.reduceToNat, List.length_cons, List.length_nil, Nat.reduceAdd, Nat.reduceLeDiff, Nat.zero_le, true_and, and_true, if_true, if_false, ne_eq, Int.reduceEq, Int.reduceNeg, not_false_eq_true, not_true_eq_false, ↓reduceIte, Int.reduceLT, Int.reduceLE, and_self, or_true, true_or, or_false, false_or, false_and, and_false, ah_t_w, ah_m_w, ah_n_w, lst1_0, List.tail_cons, w32_i, zbd, lst2_0]
      have es1 : ah_m h1 1091 = sr := by rw [Off_r hO1 (fun i w => by omega)]; exact es
      have en1 : ah_m h1 1036 80 = n := by rw [hO1.2 _ _ (by omega)]; exact en
      refine l_351 (h := h1) hH hF hT hG.2.2.2.2 es1 en1 hS hd al hal (R := zpf (zplp T nw sr n) al 0 (0, -1, -1)) (fun h2 tl hG2 hA2 hO2 => ?_) al 0 _ _ _ _ _ (by omega) (by omega) (by omega) (by omega) hG1 hA1 Off_rfl rfl
      generalize zpf (zplp T nw sr n) al 0 (0, -1, -1) = R at *
      simp (disch := omega) only [q_351_101, b_351_101, ↓w_aload_n_0, ↓w_iload_n_1, ↓w_iload_n_2, ↓w_goto, ↓w_ifCond_ne, ↓w_invokevirtual_0, stw_0, stw_i, stw_l, stw_r, ofK0, ofK1, ofK2, lst1, lst2, lkill, kont_none, kont_some, Int.reduceToNat, List.length_cons, List.length_nil, Nat.reduceAdd, Nat.reduceLeDiff, Nat.zero_le, true_and, and_true, if_true, if_false, ne_eq, Int.reduceEq, Int.reduceNeg, not_false_eq_true, not_true_eq_false, ↓reduceIte, Int.reduceLT, Int.reduceLE, and_self, or_true, true_or, or_false, false_or, false_and, and_false, ah_t_w, ah_m_w, ah_n_w, lst1_0, List.tail_cons, w32_i, zbd, lst2_0, mt_1036a hG2.1]
      refine t_341 hG2 hA2 hG.2.2.2.2 (fun _ _ => rfl) (fun h3 hG3 hO3 e3' => ?_)
      have hO03 : Off WT h h3 := Off_tr (Off_mono (fun r i w => by unfold WT; omega) hO1) (Off_tr (Off_mono (fun r i w => Or.inl w) hO2) (Off_mono (fun r i w => by unfold WT WD Wy; omega) hO3))
      have hq := hQ h3 hG3 ⟨e3', by rw [hO3.2 _ _ (by omega), hO2.2 _ _ (by unfold WD Wc Wy Wq; omega), hO1.2 _ _ (by omega)]; exact hX.2⟩ hO03
      by_cases g : w = 0
      · rw [if_pos g] at hq
        simp (disch := omega) only [b_351_101, q_351_113, b_351_113, q_351_122, b_351_122, q_351_124, b_351_124, ↓w_iconst, ↓w_aload_n_0, ↓w_iload_n_1, ↓w_iload_n_2, ↓w_iload_n_3, ↓w_iload_4, ↓w_nop, ↓w_goto, ↓w_ifCond_ne, ↓w_if_icmp_ne, ↓w_ireturn0, ↓w_invokevirtual_0, stw_0, stw_i, stw_l, stw_r, ofK0, ofK1, ofK2, lst1, lst2, lkill, kont_none, kont_some, Int.reduceToNat, List.length_cons, List.length_nil, Nat.reduceAdd, Nat.reduceLeDiff, Nat.zero_le, true_and, and_true, if_true, if_false, ne_eq, Int.reduceEq, Int.reduceNeg, not_false_eq_true, not_true_eq_false, ↓reduceIte, Int.reduceLT, Int.reduceLE, and_self, or_true, true_or, or_false, false_or, false_and, and_false, ah_t_w, ah_m_w, ah_n_w, lst1_0, List.tail_cons, w32_i, zbd, lst2_0, g]
        exact hq
      · rw [if_neg g] at hq
        by_cases g1 : w = 1
        · rw [if_pos g1] at hq
          simp (disch := omega) only [b_351_101, q_351_113, b_351_113, q_351_122, b_351_122, q_351_124, b_351_124, ↓w_iconst, ↓w_aload_n_0, ↓w_iload_n_1, ↓w_iload_n_2, ↓w_iload_n_3, ↓w_iload_4, ↓w_nop, ↓w_goto, ↓w_ifCond_ne, ↓w_if_icmp_ne, ↓w_ireturn0, ↓w_invokevirtual_0, stw_0, stw_i, stw_l, stw_r, ofK0, ofK1, ofK2, lst1, lst2, lkill, kont_none, kont_some, Int.reduceToNat, List.length_cons, List.length_nil, Nat.reduceAdd, Nat.reduceLeDiff, Nat.zero_le, true_and, and_true, if_true, if_false, ne_eq, Int.reduceEq, Int.reduceNeg, not_false_eq_true, not_true_eq_false, ↓reduceIte, Int.reduceLT, Int.reduceLE, and_self, or_true, true_or, or_false, false_or, false_and, and_false, ah_t_w, ah_m_w, ah_n_w, lst1_0, List.tail_cons, w32_i, zbd, lst2_0, g, g1]
          exact hq
        · rw [if_neg g1] at hq
          simp (disch := omega) only [b_351_101, q_351_113, b_351_113, q_351_122, b_351_122, q_351_124, b_351_124, ↓w_iconst, ↓w_aload_n_0, ↓w_iload_n_1, ↓w_iload_n_2, ↓w_iload_n_3, ↓w_iload_4, ↓w_nop, ↓w_goto, ↓w_ifCond_ne, ↓w_if_icmp_ne, ↓w_ireturn0, ↓w_invokevirtual_0, stw_0, stw_i, stw_l, stw_r, ofK0, ofK1, ofK2, lst1, lst2, lkill, kont_none, kont_some, Int.reduceToNat, List.length_cons, List.length_nil, Nat.reduceAdd, Nat.reduceLeDiff, Nat.zero_le, true_and, and_true, if_true, if_false, ne_eq, Int.reduceEq, Int.reduceNeg, not_false_eq_true, not_true_eq_false, ↓reduceIte, Int.reduceLT, Int.reduceLE, and_self, or_true, true_or, or_false, false_or, false_and, and_false, ah_t_w, ah_m_w, ah_n_w, lst1_0, List.tail_cons, w32_i, zbd, lst2_0, g, g1]
          exact hq
    by_cases e3 : ah_m h 1036 58 = 0
    · simp (disch := omega) only [q_351_0, b_351_0, q_351_14, b_351_14, q_351_35, b_351_35, ↓w_iconst, ↓w_lconst, ↓w_ldc2_w, ↓w_aload_n_0, ↓w_iload_n_1, ↓w_istore, ↓w_istore_n_2, ↓w_istore_n_3, ↓w_i2l, ↓w_getfield, ↓w_nop, ↓w_goto, ↓w_ifCond_eq, ↓w_ifCond_ne, ↓w_ireturn0, ↓w_invokevirtual_0, ↓w_invokestatic_3, stw_0, stw_i, stw_l, stw_r, ofK0, ofK1, ofK2, lst1, lst2, lkill, kont_none, kont_some, Int.reduceToNat, List.length_cons, List.length_nil, Nat.reduceAdd, Nat.reduceLeDiff, Nat.zero_le, true_and, and_true, if_true, if_false, ne_eq, Int.reduceEq, Int.reduceNeg, not_false_eq_true, not_true_eq_false, ↓reduceIte, Int.reduceLT, Int.reduceLE, and_self, or_true, true_or, or_false, false_or, false_and, and_false, ah_t_w, ah_m_w, ah_n_w, lst1_0, List.tail_cons, w32_i, zbd, lst2_0, mt_1036a hG.1, c_345 hG, c_246, e2, e3]
      exact go 0 (by rw [if_pos e3])
    · simp (disch := omega) only [q_351_0, b_351_0, q_351_14, b_351_14, ↓w_iconst, ↓w_lconst, ↓w_ldc2_w, ↓w_aload_n_0, ↓w_iload_n_1, ↓w_istore, ↓w_istore_n_2, ↓w_istore_n_3, ↓w_i2l, ↓w_getfield, ↓w_goto, ↓w_ifCond_eq, ↓w_ifCond_ne, ↓w_ireturn0, ↓w_invokevirtual_0, ↓w_invokestatic_3, stw_0, stw_i, stw_l, stw_r, ofK0, ofK1, ofK2, lst1, lst2, lkill, kont_none, kont_some, Int.reduceToNat, List.length_cons, List.length_nil, Nat.reduceAdd, Nat.reduceLeDiff, Nat.zero_le, true_and, and_true, if_true, if_false, ne_eq, Int.reduceEq, Int.reduceNeg, not_false_eq_true, not_true_eq_false, ↓reduceIte, Int.reduceLT, Int.reduceLE, and_self, or_true, true_or, or_false, false_or, false_and, and_false, ah_t_w, ah_m_w, ah_n_w, lst1_0, List.tail_cons, w32_i, zbd, lst2_0, mt_1036a hG.1, c_345 hG, c_246, e2, e3, zall_i]
      exact go (zall T nw) (by rw [if_neg e3])
  · rw [if_neg e2] at hQ
    simp (disch := omega) only [q_351_0, b_351_0, ↓w_iconst, ↓w_lconst, ↓w_ldc2_w, ↓w_iload_n_1, ↓w_i2l, ↓w_ifCond_ne, ↓w_ireturn0, ↓w_invokestatic_3, stw_0, stw_i, stw_l, stw_r, ofK0, ofK1, ofK2, lst1, lst2, lkill, kont_none, kont_some, Int.reduceToNat, List.length_cons, List.length_nil, Nat.reduceAdd, Nat.reduceLeDiff, Nat.zero_le, true_and, and_true, if_true, if_false, ne_eq, Int.reduceEq, Int.reduceNeg, not_false_eq_true, not_true_eq_false, ↓reduceIte, Int.reduceLT, Int.reduceLE, and_self, or_true, true_or, or_false, false_or, false_and, and_false, ah_t_w, ah_m_w, ah_n_w, lst1_0, List.tail_cons, w32_i, zbd, lst2_0, mt_1036a hG.1, c_246, if_neg e2]
    exact hQ _ hG hX Off_rfl
end SEEN
