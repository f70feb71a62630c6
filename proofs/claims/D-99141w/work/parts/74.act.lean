/-! ===== M: acts, kept in a ring ===== -/
def zmix (r nw : Int → Int) : Int → Int := fun k => if 0 ≤ k ∧ k < 225 then r k else nw k
def URl (h : AH) : List (Int → Int) → Int → Prop
  | [], _ => True
  | r :: l, q => (∀ k, 0 ≤ k → k < 225 → ah_m h 1093 (225 * q + k) = r k) ∧ URl h l ((q + 19) % 20)
/-- what can be undone, the latest first -/
def UR (h : AH) (ul : List (Int → Int)) : Prop := ah_m h 1036 84 = ul.length ∧ ul.length ≤ 20 ∧ (0 ≤ ah_m h 1036 85 ∧ ah_m h 1036 85 < 20) ∧ URl h ul (ah_m h 1036 85)
def WU (r i : Int) : Prop := r = 1093 ∨ (r = 1036 ∧ (i = 84 ∨ i = 85))
def ztnd (nw : Int → Int) (f a : Int) : Int → Int := fun i => if i = 18 + f then (if 999 < nw (18 + f) + a then 999 else nw (18 + f) + a) else nw i
section ACT
variable {d : Nat} {h h0 : AH} {Q : QQ} {x y z m k s l w a b v n t p th D0 D1 f fr : Int} {T : Int → Int → Int} {nw g tp sr : Int → Int} {c : Int × Int × Int} {ul : List (Int → Int)}
set_option maxHeartbeats 2000000
theorem URl_c {h' : AH} : ∀ (l : List (Int → Int)) (q q0 : Int) (n : Nat), l.length ≤ n → n ≤ 19 → 0 ≤ q → q < 20 → 0 ≤ q0 → q0 < 20 → (q0 + 20 - q) % 20 > 0 → (q - q0 + 20) % 20 ≥ n → (∀ p k, 0 ≤ p → p < 20 → p ≠ q0 → 0 ≤ k → k < 225 → ah_m h' 1093 (225 * p + k) = ah_m h 1093 (225 * p + k)) → URl h l q → URl h' l q := by
  intro l
  induction l with
  | nil => intros; trivial
  | cons r l ih =>
    intro q q0 n hl hn h0 h1 h2 h3 h4 h5 he hu
    simp only [List.length_cons] at hl
    refine ⟨fun k a b => ?_, ?_⟩
    · rw [he q k h0 h1 (by omega) a b]; exact hu.1 k a b
    · by_cases e : l = []
      · subst e; trivial
      · have : 0 < l.length := List.length_pos_iff.2 e
        exact ih _ q0 (n - 1) (by omega) (by omega) (by omega) (by omega) h2 h3 (by omega) (by omega) he hu.2
theorem URl_off {W : Int → Int → Prop} {h' : AH} (hO : Off W h h') (hW : ∀ i, ¬ W 1093 i) : ∀ (l : List (Int → Int)) (q : Int), URl h l q → URl h' l q
  | [], _, _ => trivial
  | r :: l, q, hu => ⟨fun k a b => by rw [hO.2 _ _ (hW _)]; exact hu.1 k a b, URl_off hO hW l _ hu.2⟩
theorem UR_off {W : Int → Int → Prop} {h' : AH} (hU : UR h ul) (hO : Off W h h') (hW : ∀ r i, W r i → ¬ WU r i) : UR h' ul := by
  refine ⟨?_, hU.2.1, ?_, ?_⟩
  · rw [hO.2 _ _ (fun w => hW _ _ w (by unfold WU; omega))]; exact hU.1
  · rw [hO.2 _ _ (fun w => hW _ _ w (by unfold WU; omega))]; exact hU.2.2.1
  · rw [hO.2 _ _ (fun w => hW _ _ w (by unfold WU; omega))]; exact URl_off hO (fun i w => hW _ _ w (by unfold WU; omega)) _ _ hU.2.2.2
theorem URl_take : ∀ (l : List (Int → Int)) (q : Int) (n : Nat), URl h l q → URl h (l.take n) q
  | [], _, n, _ => by cases n <;> exact trivial
  | r :: l, q, 0, _ => trivial
  | r :: l, q, n + 1, hu => ⟨hu.1, URl_take l _ n hu.2⟩
theorem l_361 {q : Int} (hG : MG T nw h) (hq : 0 ≤ q ∧ q < 20) (e85 : ah_m h 1036 85 = q) (hQ : ∀ h' tl, Off (fun r i => r = 1093 ∧ 225 * q ≤ i ∧ i < 225 * q + 225) h h' → (∀ i, 0 ≤ i → i < 225 → ah_m h' 1093 (225 * q + i) = nw i) → wpB d 361 49 (some (.inr (.inr 1036)) :: tl) [] h' Q) :
    ∀ (j : Nat) (k : Int) h', 0 ≤ k → k + j = 225 → Off (fun r i => r = 1093 ∧ 225 * q ≤ i ∧ i < 225 * q + 225) h h' → (∀ i, 0 ≤ i → i < k → ah_m h' 1093 (225 * q + i) = nw i) → wpB d 361 15 [some (.inr (.inr 1036)), some (.inl k)] [] h' Q := by
  intro j
  induction j with
  | zero =>
    intro k h' k0 k1 hO hi
    have hlt : ¬ k < 225 := by omega
    simp (disch := omega) only [q_361_15, b_361_15, ↓w_sipush, ↓w_aload_n_0, ↓w_iload_n_1, ↓w_iinc_1, ↓w_iadd, ↓w_imul, ↓w_getfield, ↓w_iaload, ↓w_iastore, ↓w_goto, ↓w_if_icmp_ge, stw_0, stw_i, stw_l, stw_r, ofK0, ofK1, ofK2, lst1, lst2, lkill, kont_none, kont_some, Int.reduceToNat, List.length_cons, List.length_nil, Nat.reduceAdd, Nat.reduceLeDiff, Nat.zero_le, true_and, and_true, if_true, if_false, ne_eq, Int.reduceEq, Int.reduceNeg, not_false_eq_true, not_true_eq_false, ↓reduceIte, Int.reduceLT, Int.reduceLE, and_self, or_true, true_or, or_false, false_or, false_and, and_false, ah_t_w, ah_m_w, ah_n_w, lst1_0, List.tail_cons, w32_i, zbd, lst2_0, hlt]
    exact hQ _ _ hO (fun i a b => hi i a (by omega))
  | succ j ih =>
    intro k h' k0 k1 hO hi
    have hG' : MG T nw h' := MG_off hG hO (fun r i w => by unfold fre; omega)
    have hlt : k < 225 := by omega
    have f85 : ah_m h' 1036 85 = q := by rw [hO.2 _ _ (by omega)]; exact e85
    rw [q_361_15]
    simp (disch := omega) only [b_361_15, ↓w_sipush, ↓w_aload_n_0, ↓w_iload_n_1, ↓w_iinc_1, ↓w_iadd, ↓w_imul, ↓w_getfield, ↓w_iaload, ↓w_iastore, ↓w_goto, ↓w_if_icmp_ge, stw_0, stw_i, stw_l, stw_r, ofK0, ofK1, ofK2, lst1, lst2, lkill, kont_none, kont_some, Int.reduceToNat, List.length_cons, List.length_nil, Nat.reduceAdd, Nat.reduceLeDiff, Nat.zero_le, true_and, and_true, if_true, if_false, ne_eq, Int.reduceEq, Int.reduceNeg, not_false_eq_true, not_true_eq_false, ↓reduceIte, Int.reduceLT, Int.reduceLE, and_self, or_true, true_or, or_false, false_or, false_and, and_false, ah_t_w, ah_m_w, ah_n_w, lst1_0, List.tail_cons, w32_i, zbd, lst2_0, mt_1036a hG'.1, mt_1083a hG'.1, mt_1083b hG'.1, mf_62 hG'.1, mt_1093a hG'.1, mt_1093b hG'.1, mf_83 hG'.1, g_1083 hG', hlt, f85]
    refine ⟨k0, ih (k + 1) _ (by omega) (by omega) (Off_w hO (by omega)) (fun i a b => ?_)⟩
    rw [ah_m_w]; split
    · rename_i e
      have : i = k := by omega
      rw [this]
    · exact hi i a (by omega)
theorem c_361 (hG : MG T nw h) (hU : UR h ul) (hQ : ∀ h', MG T nw h' → UR h' ((nw :: ul).take 20) → Off WU h h' → Q (.inl none) h') : wpC (d + 1) 361 [.inr (.inr 1036)] h Q := by
  have hU3 := hU.2.2.1
  generalize e0 : ah_m h 1036 85 = q0 at hU3
  have e1 : (q0 + 1).tmod 20 = (q0 + 1) % 20 := Int.tmod_eq_emod_of_nonneg (by omega)
  have hq : 0 ≤ (q0 + 1) % 20 ∧ (q0 + 1) % 20 < 20 := by omega
  generalize eq : (q0 + 1) % 20 = q at *
  have hG1 : MG T nw (ah_w h 1036 85 q) := MG_f hG (by omega)
  rw [wpC_B]; refine ⟨⟨Nat.zero_lt_succ _, Nat.le_of_ble_eq_true rfl⟩, ?_⟩; simp only [lent]
  simp (disch := omega) only [q_361_0, b_361_0, ↓w_iconst, ↓w_bipush, ↓w_aload_n_0, ↓w_istore_n_1, ↓w_iadd, ↓w_irem, ↓w_getfield, ↓w_putfield_0, ↓w_nop, stw_0, stw_i, stw_l, stw_r, ofK0, ofK1, ofK2, lst1, lst2, lkill, kont_none, kont_some, Int.reduceToNat, List.length_cons, List.length_nil, Nat.reduceAdd, Nat.reduceLeDiff, Nat.zero_le, true_and, and_true, if_true, if_false, ne_eq, Int.reduceEq, Int.reduceNeg, not_false_eq_true, not_true_eq_false, ↓reduceIte, Int.reduceLT, Int.reduceLE, and_self, or_true, true_or, or_false, false_or, false_and, and_false, ah_t_w, ah_m_w, ah_n_w, lst1_0, List.tail_cons, w32_i, zbd, lst2_0, mt_1036a hG.1, e0, e1]
  refine l_361 hG1 hq rfl (fun h2 tl hO2 hi => ?_) 225 0 _ (by omega) (by omega) Off_rfl (fun i a b => by omega)
  have hG2 : MG T nw h2 := MG_off hG1 hO2 (fun r i w => by unfold fre; omega)
  have e84 : ah_m h2 1036 84 = ul.length := by rw [hO2.2 _ _ (by omega), ah_m_w, if_neg (by omega)]; exact hU.1
  have e85 : ah_m h2 1036 85 = q := by rw [hO2.2 _ _ (by omega)]; rfl
  have hO : Off WU h h2 := Off_tr (Off_w Off_rfl (by unfold WU; omega)) (Off_mono (fun r i w => by unfold WU; omega) hO2)
  have h20 := hU.2.1
  have eqq : (q + 19) % 20 = q0 := by omega
  have huo := hU.2.2.2
  rw [e0] at huo
  have cp : ∀ p k, 0 ≤ p → p < 20 → p ≠ q → 0 ≤ k → k < 225 → ah_m h2 1093 (225 * p + k) = ah_m h 1093 (225 * p + k) := by
    intro p k a b c d' e
    rw [hO2.2 _ _ (by omega), ah_m_w, if_neg (by omega)]
  by_cases g : (ul.length : Int) < 20
  · have hl : URl h2 ul q0 := by
      by_cases e : ul = []
      · subst e; trivial
      · exact URl_c ul q0 q 19 (by omega) (by omega) hU3.1 hU3.2 hq.1 hq.2 (by omega) (by omega) cp huo
    simp (disch := omega) only [q_361_49, b_361_49, q_361_68, b_361_68, ↓w_iconst, ↓w_bipush, ↓w_aload_n_0, ↓w_dup_i, ↓w_dup_a, ↓w_iadd, ↓w_getfield, ↓w_putfield_0, ↓w_nop, ↓w_if_icmp_ge, ↓w_return, stw_0, stw_i, stw_l, stw_r, ofK0, ofK1, ofK2, lst1, lst2, lkill, kont_none, kont_some, Int.reduceToNat, List.length_cons, List.length_nil, Nat.reduceAdd, Nat.reduceLeDiff, Nat.zero_le, true_and, and_true, if_true, if_false, ne_eq, Int.reduceEq, Int.reduceNeg, not_false_eq_true, not_true_eq_false, ↓reduceIte, Int.reduceLT, Int.reduceLE, and_self, or_true, true_or, or_false, false_or, false_and, and_false, ah_t_w, ah_m_w, ah_n_w, lst1_0, List.tail_cons, w32_i, zbd, lst2_0, mt_1036a hG2.1, e84, g]
    refine hQ _ (MG_f hG2 (by omega)) ⟨?_, ?_, ?_, ?_⟩ (Off_w hO (by unfold WU; omega))
    · rw [ah_m_w, if_pos ⟨rfl, rfl⟩, List.take_of_length_le (by simp; omega)]; simp
    · rw [List.take_of_length_le (by simp; omega)]; simp; omega
    · rw [ah_m_w, if_neg (by omega), e85]; exact hq
    · rw [ah_m_w, if_neg (by omega), e85, List.take_of_length_le (by simp; omega)]
      refine URl_off (W := fun r i => r = 1036) (Off_w Off_rfl rfl) (fun i w => by omega) (nw :: ul) q ⟨hi, ?_⟩
      rw [eqq]; exact hl
  · have hl : URl h2 (ul.take 19) q0 := by
      exact URl_c (ul.take 19) q0 q 19 (by simp; omega) (by omega) hU3.1 hU3.2 hq.1 hq.2 (by omega) (by omega) cp (URl_take _ _ _ huo)
    simp (disch := omega) only [q_361_49, b_361_49, q_361_68, b_361_68, ↓w_iconst, ↓w_bipush, ↓w_aload_n_0, ↓w_dup_i, ↓w_dup_a, ↓w_iadd, ↓w_getfield, ↓w_putfield_0, ↓w_nop, ↓w_if_icmp_ge, ↓w_return, stw_0, stw_i, stw_l, stw_r, ofK0, ofK1, ofK2, lst1, lst2, lkill, kont_none, kont_some, Int.reduceToNat, List.length_cons, List.length_nil, Nat.reduceAdd, Nat.reduceLeDiff, Nat.zero_le, true_and, and_true, if_true, if_false, ne_eq, Int.reduceEq, Int.reduceNeg, not_false_eq_true, not_true_eq_false, ↓reduceIte, Int.reduceLT, Int.reduceLE, and_self, or_true, true_or, or_false, false_or, false_and, and_false, ah_t_w, ah_m_w, ah_n_w, lst1_0, List.tail_cons, w32_i, zbd, lst2_0, mt_1036a hG2.1, e84, g]
    refine hQ _ hG2 ⟨?_, ?_, ?_, ?_⟩ hO
    · rw [e84]; simp; omega
    · simp; omega
    · rw [e85]; exact hq
    · rw [e85]; exact ⟨hi, by rw [eqq]; exact hl⟩
/-! undo -/
theorem l_359 {q : Int} {r : Int → Int} (hM : MI h) (hq : 0 ≤ q ∧ q < 20) (e85 : ah_m h 1036 85 = q) (hr : ∀ k, 0 ≤ k → k < 225 → ah_m h 1093 (225 * q + k) = r k) (hQ : ∀ h' tl, Off W83 h h' → ah_m h' 1083 = zmix r (ah_m h 1083) → wpB d 359 55 (some (.inr (.inr 1036)) :: tl) [] h' Q) :
    ∀ (j : Nat) (k : Int) h', 0 ≤ k → k + j = 225 → Off W83 h h' → (∀ i, ah_m h' 1083 i = if 0 ≤ i ∧ i < k then r i else ah_m h 1083 i) → wpB d 359 21 [some (.inr (.inr 1036)), some (.inl k)] [] h' Q := by
  intro j
  induction j with
  | zero =>
    intro k h' k0 k1 hO hi
    have hlt : ¬ k < 225 := by omega
    have ek : k = 225 := by omega
    subst ek
    simp (disch := omega) only [q_359_21, b_359_21, ↓w_sipush, ↓w_aload_n_0, ↓w_iload_n_1, ↓w_iinc_1, ↓w_iadd, ↓w_imul, ↓w_getfield, ↓w_iaload, ↓w_iastore, ↓w_goto, ↓w_if_icmp_ge, stw_0, stw_i, stw_l, stw_r, ofK0, ofK1, ofK2, lst1, lst2, lkill, kont_none, kont_some, Int.reduceToNat, List.length_cons, List.length_nil, Nat.reduceAdd, Nat.reduceLeDiff, Nat.zero_le, true_and, and_true, if_true, if_false, ne_eq, Int.reduceEq, Int.reduceNeg, not_false_eq_true, not_true_eq_false, ↓reduceIte, Int.reduceLT, Int.reduceLE, and_self, or_true, true_or, or_false, false_or, false_and, and_false, ah_t_w, ah_m_w, ah_n_w, lst1_0, List.tail_cons, w32_i, zbd, lst2_0, hlt]
    exact hQ _ _ hO (funext hi)
  | succ j ih =>
    intro k h' k0 k1 hO hi
    have hM' : MI h' := MI_off hM hO (fun r i w => W83_f w)
    have hlt : k < 225 := by omega
    have f85 : ah_m h' 1036 85 = q := by rw [hO.2 _ _ (by unfold W83; omega)]; exact e85
    have fr : ah_m h' 1093 (225 * q + k) = r k := by rw [hO.2 _ _ (by unfold W83; omega)]; exact hr k k0 hlt
    rw [q_359_21]
    simp (disch := omega) only [b_359_21, ↓w_sipush, ↓w_aload_n_0, ↓w_iload_n_1, ↓w_iinc_1, ↓w_iadd, ↓w_imul, ↓w_getfield, ↓w_iaload, ↓w_iastore, ↓w_goto, ↓w_if_icmp_ge, stw_0, stw_i, stw_l, stw_r, ofK0, ofK1, ofK2, lst1, lst2, lkill, kont_none, kont_some, Int.reduceToNat, List.length_cons, List.length_nil, Nat.reduceAdd, Nat.reduceLeDiff, Nat.zero_le, true_and, and_true, if_true, if_false, ne_eq, Int.reduceEq, Int.reduceNeg, not_false_eq_true, not_true_eq_false, ↓reduceIte, Int.reduceLT, Int.reduceLE, and_self, or_true, true_or, or_false, false_or, false_and, and_false, ah_t_w, ah_m_w, ah_n_w, lst1_0, List.tail_cons, w32_i, zbd, lst2_0, mt_1036a hM', mt_1083a hM', mt_1083b hM', mf_62 hM', mt_1093a hM', mt_1093b hM', mf_83 hM', hlt, f85, fr]
    refine ⟨k0, ih (k + 1) _ (by omega) (by omega) (Off_w hO rfl) (fun i => ?_)⟩
    rw [ah_m_w, hi i]
    by_cases e : i = k
    · rw [if_pos ⟨rfl, e⟩, if_pos (by omega), e]
    · rw [if_neg (fun q => e q.2)]
      by_cases e2 : 0 ≤ i ∧ i < k
      · rw [if_pos e2, if_pos (by omega)]
      · rw [if_neg e2, if_neg (by omega)]
theorem c_359 (hG : MG T nw h) (hU : UR h ul) (hN : ∀ r ∈ ul, NV T r)
    (hQ0 : ul = [] → Q (.inl (some (.inl 0))) (ah_w h 1038 4 (w32 (ah_m h 1038 4 + 1))))
    (hQ1 : ∀ h' r l, ul = r :: l → MG T (zmix r nw) h' → UR h' l → Off (fun r i => r = 1083 ∨ (r = 1036 ∧ (i = 84 ∨ i = 85))) h h' → Q (.inl (some (.inl 1))) h') : wpC (d + 1) 359 [.inr (.inr 1036)] h Q := by
  have h8 := hG.2.2.2.1.2.1
  have e84 := hU.1
  have h20 := hU.2.1
  rw [wpC_B]; refine ⟨⟨Nat.zero_lt_succ _, Nat.le_of_ble_eq_true rfl⟩, ?_⟩; simp only [lent]
  cases ul with
  | nil =>
    simp (disch := omega) only [q_359_0, b_359_0, ↓w_iconst, ↓w_aload_n_0, ↓w_dup2, ↓w_iadd, ↓w_getfield, ↓w_iaload, ↓w_iastore, ↓w_ifCond_ne, ↓w_ireturn1, stw_0, stw_i, stw_l, stw_r, ofK0, ofK1, ofK2, lst1, lst2, lkill, kont_none, kont_some, Int.reduceToNat, List.length_cons, List.length_nil, Nat.reduceAdd, Nat.reduceLeDiff, Nat.zero_le, true_and, and_true, if_true, if_false, ne_eq, Int.reduceEq, Int.reduceNeg, not_false_eq_true, not_true_eq_false, ↓reduceIte, Int.reduceLT, Int.reduceLE, and_self, or_true, true_or, or_false, false_or, false_and, and_false, ah_t_w, ah_m_w, ah_n_w, lst1_0, List.tail_cons, w32_i, zbd, lst2_0, mt_1036a hG.1, mt_1038a hG.1, mt_1038b hG.1, mf_9 hG.1, e84, List.length_nil, Int.natCast_zero, Int.cast_ofNat_Int]
    exact hQ0 rfl
  | cons r l =>
    have g : ¬ ((r :: l).length : Int) = 0 := by simp; omega
    have hq := hU.2.2.1
    generalize e0 : ah_m h 1036 85 = q0 at hq
    have hur := hU.2.2.2
    rw [e0] at hur
    simp (disch := omega) only [q_359_0, b_359_0, q_359_19, b_359_19, ↓w_iconst, ↓w_aload_n_0, ↓w_istore_n_1, ↓w_dup2, ↓w_iadd, ↓w_getfield, ↓w_iaload, ↓w_iastore, ↓w_nop, ↓w_ifCond_ne, ↓w_ireturn1, stw_0, stw_i, stw_l, stw_r, ofK0, ofK1, ofK2, lst1, lst2, lkill, kont_none, kont_some, Int.reduceToNat, List.length_cons, List.length_nil, Nat.reduceAdd, Nat.reduceLeDiff, Nat.zero_le, true_and, and_true, if_true, if_false, ne_eq, Int.reduceEq, Int.reduceNeg, not_false_eq_true, not_true_eq_false, ↓reduceIte, Int.reduceLT, Int.reduceLE, and_self, or_true, true_or, or_false, false_or, false_and, and_false, ah_t_w, ah_m_w, ah_n_w, lst1_0, List.tail_cons, w32_i, zbd, lst2_0, mt_1036a hG.1, mt_1038a hG.1, mt_1038b hG.1, mf_9 hG.1, e84, g]
    refine l_359 hG.1 hq e0 hur.1 (fun h2 tl hO2 er => ?_) 225 0 _ (by omega) (by omega) Off_rfl (fun i => by rw [if_neg (by omega)])
    rw [g_1083 hG] at er
    have hNr := hN r List.mem_cons_self
    have hG2 : MG T (zmix r nw) h2 := MG_row hG er (NV_c hNr h8.2 (fun i a b => by unfold zmix; rw [if_pos (by omega)])) hO2
    have f85 : ah_m h2 1036 85 = q0 := by rw [hO2.2 _ _ (by unfold W83; omega)]; exact e0
    have f84 : ah_m h2 1036 84 = ((r :: l).length : Int) := by rw [hO2.2 _ _ (by unfold W83; omega)]; exact e84
    have e1 : (q0 + 20 - 1).tmod 20 = (q0 + 19) % 20 := by
      rw [Int.tmod_eq_emod_of_nonneg (by omega)]; congr 1; omega
    simp only [List.length_cons] at f84 h20
    simp (disch := omega) only [q_359_55, b_359_55, ↓w_iconst, ↓w_bipush, ↓w_aload_n_0, ↓w_dup_i, ↓w_dup_a, ↓w_iadd, ↓w_isub, ↓w_irem, ↓w_getfield, ↓w_putfield_0, ↓w_ireturn1, stw_0, stw_i, stw_l, stw_r, ofK0, ofK1, ofK2, lst1, lst2, lkill, kont_none, kont_some, Int.reduceToNat, List.length_cons, List.length_nil, Nat.reduceAdd, Nat.reduceLeDiff, Nat.zero_le, true_and, and_true, if_true, if_false, ne_eq, Int.reduceEq, Int.reduceNeg, not_false_eq_true, not_true_eq_false, ↓reduceIte, Int.reduceLT, Int.reduceLE, and_self, or_true, true_or, or_false, false_or, false_and, and_false, ah_t_w, ah_m_w, ah_n_w, lst1_0, List.tail_cons, w32_i, zbd, lst2_0, mt_1036a hG2.1, f84, f85, e1]
    refine hQ1 _ r l rfl (MG_f (MG_f hG2 (by omega)) (by omega)) ⟨?_, by omega, ?_, ?_⟩ (Off_w (Off_w (Off_mono (fun r i w => Or.inl w) hO2) (by omega)) (by omega))
    · rw [ah_m_w, if_pos ⟨rfl, rfl⟩]; omega
    · rw [ah_m_w, if_neg (by omega), ah_m_w, if_pos ⟨rfl, rfl⟩]; omega
    · rw [ah_m_w, if_neg (by omega), ah_m_w, if_pos ⟨rfl, rfl⟩]
      exact URl_off (W := fun r i => r = 1083 ∨ r = 1036) (Off_w (Off_w (Off_mono (fun r i w => Or.inl w) hO2) (Or.inr rfl)) (Or.inr rfl)) (fun i w => by omega) _ _ hur.2
end ACT
