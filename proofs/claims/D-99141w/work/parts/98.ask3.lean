/-! ===== M: ask ===== -/
def WK (r i : Int) : Prop := WZ r i ∨ r = 1089 ∨ r = 1119 ∨ (r = 1036 ∧ (i = 1 ∨ i = 3 ∨ i = 7 ∨ i = 8 ∨ i = 59 ∨ i = 117 ∨ i = 118 ∨ i = 119))
def zqans (T : Int → Int → Int) (nw : Int → Int) (kd : Int) (c : List Int) : Int := (zqg T nw kd c (zn T) 0 (if kd < 2 then -1 else 0, true)).1
section ASK3
variable {d : Nat} {h h0 : AH} {Q : QQ} {x y z m k s l w a b c v n p r o kd : Int} {T : Int → Int → Int} {nw t : Int → Int} {cs : List Int}
set_option maxHeartbeats 4000000
theorem WK_f {r i : Int} (w : WK r i) : fre r i ∧ ¬ (1072 ≤ r ∧ r ≤ 1083) := by unfold WK WZ WQ at w; unfold fre; omega
theorem l_367a {z1 : Int} (hG : MG T nw h) (hQ : ∀ h' tl, MG T nw h' → Off (fun r _ => r = 1089) h h' → (∀ i, 0 ≤ i → i < T 1072 4 → nw (2 + 2 * i) ≠ -1 → ah_m h' 1089 i = (zmk T nw i (zP T) 0).length) → wpB (d + 6) 367 220 (some (.inr (.inr 1036)) :: some (.inl z1) :: tl) [] h' Q) :
    ∀ (j : Nat) (i : Int) h', 0 ≤ i → i + j = T 1072 4 → MG T nw h' → Off (fun r _ => r = 1089) h h' → (∀ q, 0 ≤ q → q < i → nw (2 + 2 * q) ≠ -1 → ah_m h' 1089 q = (zmk T nw q (zP T) 0).length) → wpB (d + 6) 367 183 [some (.inr (.inr 1036)), some (.inl z1), some (.inl i)] [] h' Q := by
  have h8 := hG.2.2.2.1.2.1
  intro j
  induction j with
  | zero =>
    intro i h' i0 i1 hG' hO hi
    have hlt : ¬ i < T 1072 4 := by omega
    simp (disch := omega) only [q_367_183, b_367_183, ↓w_iconst, ↓w_aload_n_0, ↓w_iload_n_2, ↓w_getfield, ↓w_goto, ↓w_ifCond_eq, ↓w_if_icmp_ge, ↓w_invokevirtual_0, ↓w_invokevirtual_1, stw_0, stw_i, stw_l, stw_r, ofK0, ofK1, ofK2, lst1, lst2, lkill, kont_none, kont_some, Int.reduceToNat, List.length_cons, List.length_nil, Nat.reduceAdd, Nat.reduceLeDiff, Nat.zero_le, true_and, and_true, if_true, if_false, ne_eq, Int.reduceEq, Int.reduceNeg, not_false_eq_true, not_true_eq_false, ↓reduceIte, Int.reduceLT, Int.reduceLE, and_self, or_true, true_or, or_false, false_or, false_and, and_false, ah_t_w, ah_m_w, ah_n_w, lst1_0, List.tail_cons, w32_i, zbd, lst2_0, mt_1036a hG'.1, mt_1089a hG'.1, mt_1089b hG'.1, mf_74 hG'.1, c_281 hG', c_284 hG', hlt]
    exact hQ _ _ hG' hO (fun q a b => hi q a (by omega))
  | succ j ih =>
    intro i h' i0 i1 hG' hO hi
    have hlt : i < T 1072 4 := by omega
    have fin : ∀ v : Int, (nw (2 + 2 * i) ≠ -1 → v = (zmk T nw i (zP T) 0).length) → wpB (d + 6) 367 183 [some (.inr (.inr 1036)), some (.inl z1), some (.inl (i + 1))] [] (ah_w h' 1089 i v) Q := by
      intro v hv
      refine ih (i + 1) _ (by omega) (by omega) (MG_w' hG' (by omega)) (Off_w hO rfl) (fun q a b hq => ?_)
      rw [ah_m_w]; split
      · rename_i e; rw [e.2] at hq ⊢; exact hv hq
      · exact hi q a (by omega) hq
    rw [q_367_183]
    by_cases g : nw (2 + 2 * i) = -1
    · simp (disch := omega) only [b_367_183, q_367_213, b_367_213, ↓w_iconst, ↓w_aload_n_0, ↓w_iload_n_2, ↓w_iinc_2, ↓w_getfield, ↓w_iastore, ↓w_goto, ↓w_ifCond_eq, ↓w_if_icmp_ge, ↓w_invokevirtual_0, ↓w_invokevirtual_1, stw_0, stw_i, stw_l, stw_r, ofK0, ofK1, ofK2, lst1, lst2, lkill, kont_none, kont_some, Int.reduceToNat, List.length_cons, List.length_nil, Nat.reduceAdd, Nat.reduceLeDiff, Nat.zero_le, true_and, and_true, if_true, if_false, ne_eq, Int.reduceEq, Int.reduceNeg, not_false_eq_true, not_true_eq_false, ↓reduceIte, Int.reduceLT, Int.reduceLE, and_self, or_true, true_or, or_false, false_or, false_and, and_false, ah_t_w, ah_m_w, ah_n_w, lst1_0, List.tail_cons, w32_i, zbd, lst2_0, mt_1036a hG'.1, mt_1089a hG'.1, mt_1089b hG'.1, mf_74 hG'.1, c_281 hG', c_284 hG', hlt, g]
      exact fin _ (fun q => absurd g q)
    · simp (disch := omega) only [b_367_183, q_367_208, b_367_208, q_367_213, b_367_213, ↓w_iconst, ↓w_aload_n_0, ↓w_iload_n_2, ↓w_iinc_2, ↓w_getfield, ↓w_iastore, ↓w_nop, ↓w_goto, ↓w_ifCond_eq, ↓w_if_icmp_ge, ↓w_invokevirtual_0, ↓w_invokevirtual_1, stw_0, stw_i, stw_l, stw_r, ofK0, ofK1, ofK2, lst1, lst2, lkill, kont_none, kont_some, Int.reduceToNat, List.length_cons, List.length_nil, Nat.reduceAdd, Nat.reduceLeDiff, Nat.zero_le, true_and, and_true, if_true, if_false, ne_eq, Int.reduceEq, Int.reduceNeg, not_false_eq_true, not_true_eq_false, ↓reduceIte, Int.reduceLT, Int.reduceLE, and_self, or_true, true_or, or_false, false_or, false_and, and_false, ah_t_w, ah_m_w, ah_n_w, lst1_0, List.tail_cons, w32_i, zbd, lst2_0, mt_1036a hG'.1, mt_1089a hG'.1, mt_1089b hG'.1, mf_74 hG'.1, c_281 hG', c_284 hG', c_288 hG', hlt, g]
      exact fin _ (fun _ => rfl)
theorem zqv_b {i : Int} {bb : Bool} (ht : ztl false cs [] = some [bb]) : -1000000 ≤ zqv T nw cs i ∧ zqv T nw cs i ≤ 1000000 := by
  unfold zqv
  have hf := zrun_fit (pt := zpq T nw i) (of := zoq T nw i) _ [] [] _ trivial ht
  obtain ⟨x, st', es, hx, _⟩ := zfit_c hf
  rw [es]
  show -1000000 ≤ x ∧ x ≤ 1000000
  cases bb
  · simpa using hx
  · have : x = 0 ∨ x = 1 := by simpa using hx
    omega
theorem zqf_b {i B : Int} {q : Int × Bool} (hv : -1000000 ≤ v ∧ v ≤ 1000000) (hi : 0 ≤ i ∧ i < 8) (hB : 0 ≤ B) (ha : -1000000 - B ≤ q.1 ∧ q.1 ≤ 1000000 + B) : -1000000 - (B + 1000000) ≤ (zqf kd v i q).1 ∧ (zqf kd v i q).1 ≤ 1000000 + (B + 1000000) := by
  unfold zqf
  simp only
  repeat' split
  all_goals omega
theorem l_367b {bb : Bool} {hz : AH} (hC : Cods hz cs) (e111 : ah_m hz 1036 111 = cs.length) (hcl : (cs.length : Int) ≤ 1600) (ht : ztl false cs [] = some [bb]) (hk : 0 ≤ kd ∧ kd ≤ 5) (e89 : ∀ i, 0 ≤ i → i < T 1072 4 → nw (2 + 2 * i) ≠ -1 → ah_m hz 1089 i = (zmk T nw i (zP T) 0).length) (h8 : 0 ≤ T 1072 4 ∧ T 1072 4 ≤ 8) {R : Int × Bool} (hQ : ∀ h', MG T nw h' → Off (fun r i => Wp r i ∨ (r = 1036 ∧ (i = 118 ∨ i = 119))) hz h' → Q (.inl (some (.inr (.inl R.1)))) h') :
    ∀ (j : Nat) (i : Int) (q : Int × Bool) tl h', 0 ≤ i → i + j = T 1072 4 → MG T nw h' → Off (fun r i => Wp r i ∨ (r = 1036 ∧ (i = 118 ∨ i = 119))) hz h' → ah_m h' 1036 118 = q.1 → ah_m h' 1036 119 = zb q.2 → (-1000000 - 1000000 * i ≤ q.1 ∧ q.1 ≤ 1000000 + 1000000 * i) → zqg T nw kd cs j i q = R → wpB (d + 6) 367 227 (some (.inr (.inr 1036)) :: some (.inl kd) :: some (.inl i) :: tl) [] h' Q := by
  intro j
  induction j with
  | zero =>
    intro i q tl h' i0 i1 hG' hO e8 e9 hb hR
    have hlt : ¬ i < T 1072 4 := by omega
    simp only [zqg] at hR
    subst hR
    simp (disch := omega) only [q_367_227, b_367_227, q_367_260, b_367_260, ↓w_aload_n_0, ↓w_iload_n_1, ↓w_iload_n_2, ↓w_getfield, ↓w_nop, ↓w_ifCond_ne, ↓w_if_icmp_ge, ↓w_lreturn, ↓w_invokevirtual_0, ↓w_invokevirtual_1, ↓w_invokevirtual_3, stw_0, stw_i, stw_l, stw_r, ofK0, ofK1, ofK2, lst1, lst2, lkill, kont_none, kont_some, Int.reduceToNat, List.length_cons, List.length_nil, Nat.reduceAdd, Nat.reduceLeDiff, Nat.zero_le, true_and, and_true, if_true, if_false, ne_eq, Int.reduceEq, Int.reduceNeg, not_false_eq_true, not_true_eq_false, ↓reduceIte, Int.reduceLT, Int.reduceLE, and_self, or_true, true_or, or_false, false_or, false_and, and_false, ah_t_w, ah_m_w, ah_n_w, lst1_0, List.tail_cons, w32_i, zbd, lst2_0, mt_1036a hG'.1, c_281 hG', c_284 hG', hlt, e8]
    exact hQ _ hG' hO
  | succ j ih =>
    intro i q tl h' i0 i1 hG' hO e8 e9 hb hR
    have hlt : i < T 1072 4 := by omega
    simp only [zqg] at hR
    rw [q_367_227]
    by_cases g : nw (2 + 2 * i) = -1
    · rw [if_pos g] at hR
      simp (disch := omega) only [b_367_227, q_367_254, b_367_254, ↓w_aload_n_0, ↓w_iload_n_1, ↓w_iload_n_2, ↓w_iinc_2, ↓w_nop, ↓w_goto, ↓w_ifCond_ne, ↓w_if_icmp_ge, ↓w_invokevirtual_0, ↓w_invokevirtual_1, ↓w_invokevirtual_3, stw_0, stw_i, stw_l, stw_r, ofK0, ofK1, ofK2, lst1, lst2, lkill, kont_none, kont_some, Int.reduceToNat, List.length_cons, List.length_nil, Nat.reduceAdd, Nat.reduceLeDiff, Nat.zero_le, true_and, and_true, if_true, if_false, ne_eq, Int.reduceEq, Int.reduceNeg, not_false_eq_true, not_true_eq_false, ↓reduceIte, Int.reduceLT, Int.reduceLE, and_self, or_true, true_or, or_false, false_or, false_and, and_false, ah_t_w, ah_m_w, ah_n_w, lst1_0, List.tail_cons, w32_i, zbd, lst2_0, mt_1036a hG'.1, c_281 hG', c_284 hG', hlt, g]
      exact ih (i + 1) q _ _ (by omega) (by omega) hG' hO e8 e9 (by omega) hR
    · rw [if_neg g] at hR
      have hv := zqv_b (T := T) (nw := nw) (i := i) ht
      simp (disch := omega) only [b_367_227, ↓w_aload_n_0, ↓w_iload_n_1, ↓w_iload_n_2, ↓w_nop, ↓w_ifCond_ne, ↓w_if_icmp_ge, ↓w_invokevirtual_0, ↓w_invokevirtual_1, ↓w_invokevirtual_3, stw_0, stw_i, stw_l, stw_r, ofK0, ofK1, ofK2, lst1, lst2, lkill, kont_none, kont_some, Int.reduceToNat, List.length_cons, List.length_nil, Nat.reduceAdd, Nat.reduceLeDiff, Nat.zero_le, true_and, and_true, if_true, if_false, ne_eq, Int.reduceEq, Int.reduceNeg, not_false_eq_true, not_true_eq_false, ↓reduceIte, Int.reduceLT, Int.reduceLE, and_self, or_true, true_or, or_false, false_or, false_and, and_false, ah_t_w, ah_m_w, ah_n_w, lst1_0, List.tail_cons, w32_i, zbd, lst2_0, mt_1036a hG'.1, c_281 hG', c_284 hG', hlt, g]
      refine c_374 (bb := bb) hG' (Cods_off hC hO (fun i w => by unfold Wp at w; omega)) (by rw [hO.2 _ _ (by unfold Wp; omega)]; exact e111) hcl ⟨i0, hlt⟩ g (by rw [hO.2 _ _ (by unfold Wp; omega)]; exact e89 i i0 hlt g) ht (fun h2 hG2 hO2 => ?_)
      simp (disch := omega) only [b_367_227, ↓w_aload_n_0, ↓w_iload_n_1, ↓w_iload_n_2, ↓w_nop, ↓w_ifCond_ne, ↓w_if_icmp_ge, ↓w_invokevirtual_0, ↓w_invokevirtual_1, ↓w_invokevirtual_3, stw_0, stw_i, stw_l, stw_r, ofK0, ofK1, ofK2, lst1, lst2, lkill, kont_none, kont_some, Int.reduceToNat, List.length_cons, List.length_nil, Nat.reduceAdd, Nat.reduceLeDiff, Nat.zero_le, true_and, and_true, if_true, if_false, ne_eq, Int.reduceEq, Int.reduceNeg, not_false_eq_true, not_true_eq_false, ↓reduceIte, Int.reduceLT, Int.reduceLE, and_self, or_true, true_or, or_false, false_or, false_and, and_false, ah_t_w, ah_m_w, ah_n_w, lst1_0, List.tail_cons, w32_i, zbd, lst2_0, mt_1036a hG2.1, c_281 hG2, c_284 hG2]
      have f8 : ah_m h2 1036 118 = q.1 := by rw [hO2.2 _ _ (by unfold Wp; omega)]; exact e8
      have f9 : ah_m h2 1036 119 = zb q.2 := by rw [hO2.2 _ _ (by unfold Wp; omega)]; exact e9
      refine c_376 (i := i) (nb := q.2) hG2.1 hk f8 f9 hv (by omega) (fun h3 hO3 k8 k9 => ?_)
      simp (disch := omega) only [b_367_227, q_367_254, b_367_254, ↓w_aload_n_0, ↓w_iload_n_1, ↓w_iload_n_2, ↓w_iinc_2, ↓w_nop, ↓w_goto, ↓w_ifCond_ne, ↓w_if_icmp_ge, ↓w_invokevirtual_0, ↓w_invokevirtual_1, ↓w_invokevirtual_3, stw_0, stw_i, stw_l, stw_r, ofK0, ofK1, ofK2, lst1, lst2, lkill, kont_none, kont_some, Int.reduceToNat, List.length_cons, List.length_nil, Nat.reduceAdd, Nat.reduceLeDiff, Nat.zero_le, true_and, and_true, if_true, if_false, ne_eq, Int.reduceEq, Int.reduceNeg, not_false_eq_true, not_true_eq_false, ↓reduceIte, Int.reduceLT, Int.reduceLE, and_self, or_true, true_or, or_false, false_or, false_and, and_false, ah_t_w, ah_m_w, ah_n_w, lst1_0, List.tail_cons, w32_i, zbd, lst2_0]
      have hG3 : MG T nw h3 := MG_off hG2 hO3 (fun r i w => by unfold fre; omega)
      refine ih (i + 1) (zqf kd (zqv T nw cs i) i q) _ _ (by omega) (by omega) hG3 (Off_tr hO (Off_tr (Off_mono (fun r i w => Or.inl w) hO2) (Off_mono (fun r i w => Or.inr w) hO3))) k8 (by rw [k9]; rfl) ?_ hR
      have := zqf_b (kd := kd) (i := i) (B := 1000000 * i) (q := q) hv ⟨i0, by omega⟩ (by omega) hb
      omega
theorem c_367 (hG : MG T nw h) (et : ah_m h 1037 = t) (en : ah_m h 1036 1 = n) (hv : TPV t n)
    (hQz : ah_m h 1036 58 = 0 → Q (.inl (some (.inr (.inl (-1000000000000000))))) (ah_w h 1036 1 0))
    (hQ0 : ∀ h' a b, ah_m h 1036 58 ≠ 0 → zqs t n = .inl (a, b) → MG T nw h' → Off WK h h' → ah_m h' 1036 1 = 0 → ah_m h' 1036 7 = a → ah_m h' 1036 8 = b → Q (.inl (some (.inr (.inl (-1000000000000000))))) h')
    (hQ1 : ∀ h' kd c, ah_m h 1036 58 ≠ 0 → zqs t n = .inr (kd, c) → MG T nw h' → Off WK h h' → ah_m h' 1036 1 = 0 → ah_m h' 1036 7 = 0 → ah_m h' 1036 8 = -1 → Q (.inl (some (.inr (.inl (zqans T nw kd c))))) h') : wpC (d + 12) 367 [.inr (.inr 1036)] h Q := by
  have hT := hG.2.2.2.1
  have h8 := hT.2.1
  have hM := hG.1
  have hv1 := hv.1
  rw [wpC_B]; refine ⟨⟨Nat.zero_lt_succ _, Nat.le_of_ble_eq_true rfl⟩, ?_⟩; simp only [lent]
  by_cases g : ah_m h 1036 58 = 0
  · simp (disch := omega) only [q_367_0, b_367_0, ↓w_iconst, ↓w_ldc2_w, ↓w_aload_n_0, ↓w_getfield, ↓w_putfield_0, ↓w_ifCond_ne, ↓w_lreturn, stw_0, stw_i, stw_l, stw_r, ofK0, ofK1, ofK2, lst1, lst2, lkill, kont_none, kont_some, Int.reduceToNat, List.length_cons, List.length_nil, Nat.reduceAdd, Nat.reduceLeDiff, Nat.zero_le, true_and, and_true, if_true, if_false, ne_eq, Int.reduceEq, Int.reduceNeg, not_false_eq_true, not_true_eq_false, ↓reduceIte, Int.reduceLT, Int.reduceLE, and_self, or_true, true_or, or_false, false_or, false_and, and_false, ah_t_w, ah_m_w, ah_n_w, lst1_0, List.tail_cons, w32_i, zbd, lst2_0, mt_1036a hG.1, g]
    exact hQz g
  · have hQ0 := fun h' a b => hQ0 h' a b g
    have hQ1 := fun h' kd c => hQ1 h' kd c g
    simp (disch := omega) only [q_367_0, b_367_0, q_367_16, b_367_16, ↓w_iconst, ↓w_ldc2_w, ↓w_aload_n_0, ↓w_iload_n_1, ↓w_istore_n_1, ↓w_getfield, ↓w_putfield_0, ↓w_putfield_3, ↓w_goto, ↓w_ifCond_ne, ↓w_if_icmp_ge, ↓w_lreturn, ↓w_invokevirtual_0, stw_0, stw_i, stw_l, stw_r, ofK0, ofK1, ofK2, lst1, lst2, lkill, kont_none, kont_some, Int.reduceToNat, List.length_cons, List.length_nil, Nat.reduceAdd, Nat.reduceLeDiff, Nat.zero_le, true_and, and_true, if_true, if_false, ne_eq, Int.reduceEq, Int.reduceNeg, not_false_eq_true, not_true_eq_false, ↓reduceIte, Int.reduceLT, Int.reduceLE, and_self, or_true, true_or, or_false, false_or, false_and, and_false, ah_t_w, ah_m_w, ah_n_w, lst1_0, List.tail_cons, w32_i, zbd, lst2_0, mt_1036a hG.1, g, en]
    generalize eh1 : ah_w (ah_w (ah_w (ah_w (ah_w (ah_w (ah_w (ah_w (ah_w (ah_w (ah_w h 1036 3 n) 1036 1 0) 1036 2 0) 1036 4 (-1)) 1036 5 0) 1036 6 (-1)) 1036 59 0) 1036 111 0) 1036 113 0) 1036 114 0) 1036 115 0 = h1
    have hO1 : Off WK h h1 := by
      rw [← eh1]
      refine Off_w (Off_w (Off_w (Off_w (Off_w (Off_w (Off_w (Off_w (Off_w (Off_w (Off_w Off_rfl ?_) ?_) ?_) ?_) ?_) ?_) ?_) ?_) ?_) ?_) ?_ <;> (unfold WK WZ WQ; omega)
    have hG1 : MG T nw h1 := MG_off hG hO1 (fun r i w => WK_f w)
    have s3 : ah_m h1 1036 3 = n := by rw [← eh1]; rfl
    have s1 : ah_m h1 1036 1 = 0 := by rw [← eh1]; rfl
    have hX1 : LX t n 0 h1 := by
      refine ⟨hG1.1, by rw [Off_r hO1 (fun i w => by unfold WK WZ WQ at w; omega)]; exact et, s3, by rw [← eh1]; rfl, by rw [← eh1]; rfl, ⟨by omega, by omega, by omega, by rw [← eh1]; rfl⟩, hv, ?_⟩
      have e4 : ah_m h1 1036 4 = -1 := by rw [← eh1]; rfl
      rw [e4]
      refine ⟨by decide, fun q => by omega, fun q => ?_⟩
      have : zB t n (0 - 1) = -1 := if_neg (by omega)
      unfold zpd at q; rw [this] at q; cases q
    have hQ1' : MQs false t n 0 [] [] [] 0 h1 := by
      refine ⟨hX1, trivial, by rw [← eh1]; rfl, by rw [← eh1]; rfl, fun i a b => by simp at b; omega, by rw [← eh1]; rfl, by rw [← eh1]; rfl, by rw [← eh1]; rfl⟩
    -- at fault
    have bad133 : ∀ h' kk pp tl, zqs t n = .inl (kk, pp) → BX kk pp h' → Off WK h h' → ah_m h' 1036 1 = 0 → wpB (d + 11) 367 133 (some (.inr (.inr 1036)) :: tl) [] h' Q := by
      intro h' kk pp tl ez hB hO e1
      have e5 := hB.2.1; have hk := hB.2.2.2; have e6 := hB.2.2.1
      have hG' : MG T nw h' := MG_off hG hO (fun r i w => WK_f w)
      simp (disch := omega) only [q_367_133, b_367_133, ↓w_ldc2_w, ↓w_aload_n_0, ↓w_getfield, ↓w_putfield_0, ↓w_ifCond_eq, ↓w_lreturn, stw_0, stw_i, stw_l, stw_r, ofK0, ofK1, ofK2, lst1, lst2, lkill, kont_none, kont_some, Int.reduceToNat, List.length_cons, List.length_nil, Nat.reduceAdd, Nat.reduceLeDiff, Nat.zero_le, true_and, and_true, if_true, if_false, ne_eq, Int.reduceEq, Int.reduceNeg, not_false_eq_true, not_true_eq_false, ↓reduceIte, Int.reduceLT, Int.reduceLE, and_self, or_true, true_or, or_false, false_or, false_and, and_false, ah_t_w, ah_m_w, ah_n_w, lst1_0, List.tail_cons, w32_i, zbd, lst2_0, mt_1036a hB.1, e5, e6, hk]
      refine hQ0 _ kk pp ez (MG_f (MG_f hG' (by omega)) (by omega)) (Off_w (Off_w hO (by unfold WK; omega)) (by unfold WK; omega)) ?_ ?_ ?_
      · rw [ah_m_w, if_neg (by omega), ah_m_w, if_neg (by omega)]; exact e1
      · rw [ah_m_w, if_neg (by omega), ah_m_w, if_pos ⟨rfl, rfl⟩]
      · rw [ah_m_w, if_pos ⟨rfl, rfl⟩]
    have bad109 : ∀ h' kk pp tl, zqs t n = .inl (kk, pp) → BX kk pp h' → Off WK h h' → ah_m h' 1036 1 = 0 → wpB (d + 11) 367 109 (some (.inr (.inr 1036)) :: tl) [] h' Q := by
      intro h' kk pp tl ez hB hO e1
      have e5 := hB.2.1; have hk := hB.2.2.2
      simp (disch := omega) only [q_367_109, b_367_109, ↓w_iconst, ↓w_aload_n_0, ↓w_getfield, ↓w_nop, ↓w_if_icmp_eq, ↓w_ifCond_ne, ↓w_invokevirtual_0, ↓w_invokevirtual_2, stw_0, stw_i, stw_l, stw_r, ofK0, ofK1, ofK2, lst1, lst2, lkill, kont_none, kont_some, Int.reduceToNat, List.length_cons, List.length_nil, Nat.reduceAdd, Nat.reduceLeDiff, Nat.zero_le, true_and, and_true, if_true, if_false, ne_eq, Int.reduceEq, Int.reduceNeg, not_false_eq_true, not_true_eq_false, ↓reduceIte, Int.reduceLT, Int.reduceLE, and_self, or_true, true_or, or_false, false_or, false_and, and_false, ah_t_w, ah_m_w, ah_n_w, lst1_0, List.tail_cons, w32_i, zbd, lst2_0, mt_1036a hB.1, e5, hk]
      exact bad133 h' kk pp tl ez hB hO e1
    -- behind the question
    have behind : ∀ h' k1 tl, LX t n k1 h' → zB t n (zsk t n k1) ≠ -1 → zqs t n = .inl (1, zsk t n k1) → Off WK h h' → ah_m h' 1036 1 = 0 → wpB (d + 11) 367 109 (some (.inr (.inr 1036)) :: tl) [] h' Q := by
      intro h' k1 tl hX' hne ez hO e1
      have h5' := hX'.2.2.2.2.1
      simp (disch := omega) only [q_367_109, b_367_109, ↓w_iconst, ↓w_aload_n_0, ↓w_getfield, ↓w_nop, ↓w_if_icmp_eq, ↓w_ifCond_ne, ↓w_invokevirtual_0, ↓w_invokevirtual_2, stw_0, stw_i, stw_l, stw_r, ofK0, ofK1, ofK2, lst1, lst2, lkill, kont_none, kont_some, Int.reduceToNat, List.length_cons, List.length_nil, Nat.reduceAdd, Nat.reduceLeDiff, Nat.zero_le, true_and, and_true, if_true, if_false, ne_eq, Int.reduceEq, Int.reduceNeg, not_false_eq_true, not_true_eq_false, ↓reduceIte, Int.reduceLT, Int.reduceLE, and_self, or_true, true_or, or_false, false_or, false_and, and_false, ah_t_w, ah_m_w, ah_n_w, lst1_0, List.tail_cons, w32_i, zbd, lst2_0, mt_1036a hX'.1, h5']
      refine c_241 hX' (fun h2 hX2 hO2 => ?_)
      have e22 := hX2.2.2.2.1
      have h52 := hX2.2.2.2.2.1
      simp (disch := omega) only [b_367_109, ↓w_iconst, ↓w_aload_n_0, ↓w_getfield, ↓w_nop, ↓w_if_icmp_eq, ↓w_ifCond_ne, ↓w_invokevirtual_0, ↓w_invokevirtual_2, stw_0, stw_i, stw_l, stw_r, ofK0, ofK1, ofK2, lst1, lst2, lkill, kont_none, kont_some, Int.reduceToNat, List.length_cons, List.length_nil, Nat.reduceAdd, Nat.reduceLeDiff, Nat.zero_le, true_and, and_true, if_true, if_false, ne_eq, Int.reduceEq, Int.reduceNeg, not_false_eq_true, not_true_eq_false, ↓reduceIte, Int.reduceLT, Int.reduceLE, and_self, or_true, true_or, or_false, false_or, false_and, and_false, ah_t_w, ah_m_w, ah_n_w, lst1_0, List.tail_cons, w32_i, zbd, lst2_0, mt_1036a hX2.1, hne, e22, c_243 hX2.1 h52]
      refine bad133 _ 1 (zsk t n k1) tl ez (BX_fail hX2.1 (by decide)) (Off_w (Off_w (Off_tr hO (Off_mono (fun r i w => Or.inl (Or.inl (Wat_Q w))) hO2)) (by unfold WK WZ WQ; omega)) (by unfold WK WZ WQ; omega)) ?_
      rw [ah_m_w, if_neg (by omega), ah_m_w, if_neg (by omega), hO2.2 _ _ (by unfold Wat; omega)]; exact e1
    -- told
    have told : ∀ h' k1 kd c bb, 0 ≤ kd ∧ kd ≤ 5 → MQs false t n k1 [] [] c 0 h' → (c.length : Int) ≤ 1600 → ztl false c [] = some [bb] → zB t n (zsk t n k1) = -1 → zqs t n = .inr (kd, c) → Off WK h h' → ah_m h' 1036 1 = 0 → wpB (d + 11) 367 109 [some (.inr (.inr 1036)), some (.inl kd)] [] h' Q := by
      intro h' k1 kd c bb hkd hQ' hcl hty hne ez hO e1
      have hX' := hQ'.1
      have h5' := hX'.2.2.2.2.1
      simp (disch := omega) only [q_367_109, b_367_109, ↓w_iconst, ↓w_aload_n_0, ↓w_getfield, ↓w_nop, ↓w_if_icmp_eq, ↓w_ifCond_ne, ↓w_invokevirtual_0, ↓w_invokevirtual_2, stw_0, stw_i, stw_l, stw_r, ofK0, ofK1, ofK2, lst1, lst2, lkill, kont_none, kont_some, Int.reduceToNat, List.length_cons, List.length_nil, Nat.reduceAdd, Nat.reduceLeDiff, Nat.zero_le, true_and, and_true, if_true, if_false, ne_eq, Int.reduceEq, Int.reduceNeg, not_false_eq_true, not_true_eq_false, ↓reduceIte, Int.reduceLT, Int.reduceLE, and_self, or_true, true_or, or_false, false_or, false_and, and_false, ah_t_w, ah_m_w, ah_n_w, lst1_0, List.tail_cons, w32_i, zbd, lst2_0, mt_1036a hX'.1, h5']
      refine c_241 hX' (fun h2 hX2 hO2 => ?_)
      have hQ2 := MQ_lx hQ' hX2 hO2 (fun r i w => Wat_lx w)
      have h52 := hX2.2.2.2.2.1
      have h62 := hX2.2.2.2.2.2.1.2.2.2
      have hO2' : Off WK h h2 := Off_tr hO (Off_mono (fun r i w => Or.inl (Or.inl (Wat_Q w))) hO2)
      have hG2 : MG T nw h2 := MG_off hG hO2' (fun r i w => WK_f w)
      have e12 : ah_m h2 1036 1 = 0 := by rw [hO2.2 _ _ (by unfold Wat; omega)]; exact e1
      -- the answer grows
      have grow : ∀ a0, a0 = (if kd < 2 then (-1 : Int) else 0) → wpB (d + 11) 367 173 [some (.inr (.inr 1036)), some (.inl kd)] [.inr (.inl a0), .inr (.inr 1036)] (ah_w (ah_w h2 1036 7 0) 1036 8 (-1)) Q := by
        intro a0 ea0
        simp (disch := omega) only [q_367_173, b_367_173, ↓w_iconst, ↓w_aload_n_0, ↓w_istore_n_2, ↓w_putfield_1, ↓w_putfield_3, ↓w_nop, stw_0, stw_i, stw_l, stw_r, ofK0, ofK1, ofK2, lst1, lst2, lkill, kont_none, kont_some, Int.reduceToNat, List.length_cons, List.length_nil, Nat.reduceAdd, Nat.reduceLeDiff, Nat.zero_le, true_and, and_true, if_true, if_false, ne_eq, Int.reduceEq, Int.reduceNeg, not_false_eq_true, not_true_eq_false, ↓reduceIte, Int.reduceLT, Int.reduceLE, and_self, or_true, true_or, or_false, false_or, false_and, and_false, ah_t_w, ah_m_w, ah_n_w, lst1_0, List.tail_cons, w32_i, zbd, lst2_0, mt_1036a hG2.1]
        generalize eh3 : ah_w (ah_w (ah_w (ah_w h2 1036 7 0) 1036 8 (-1)) 1036 118 a0) 1036 119 1 = h3
        have hO3 : Off WK h2 h3 := by
          rw [← eh3]; refine Off_w (Off_w (Off_w (Off_w Off_rfl ?_) ?_) ?_) ?_ <;> (unfold WK; omega)
        have hG3 : MG T nw h3 := MG_off hG2 hO3 (fun r i w => WK_f w)
        refine l_367a hG3 (fun h4 tl hG4 hO4 e89 => ?_) (T 1072 4).toNat 0 h3 (by omega) (by omega) hG3 Off_rfl (fun q a b => by omega)
        simp (disch := omega) only [q_367_220, b_367_220, ↓w_iconst, ↓w_aload_n_0, ↓w_istore_n_2, ↓w_putfield_3, ↓w_nop, stw_0, stw_i, stw_l, stw_r, ofK0, ofK1, ofK2, lst1, lst2, lkill, kont_none, kont_some, Int.reduceToNat, List.length_cons, List.length_nil, Nat.reduceAdd, Nat.reduceLeDiff, Nat.zero_le, true_and, and_true, if_true, if_false, ne_eq, Int.reduceEq, Int.reduceNeg, not_false_eq_true, not_true_eq_false, ↓reduceIte, Int.reduceLT, Int.reduceLE, and_self, or_true, true_or, or_false, false_or, false_and, and_false, ah_t_w, ah_m_w, ah_n_w, lst1_0, List.tail_cons, w32_i, zbd, lst2_0, mt_1036a hG4.1]
        have hG5 : MG T nw (ah_w h4 1036 59 0) := MG_f hG4 (by omega)
        have g118 : ah_m (ah_w h4 1036 59 0) 1036 118 = a0 := by rw [ah_m_w, if_neg (by omega), hO4.2 _ _ (by omega), ← eh3]; rfl
        have g119 : ah_m (ah_w h4 1036 59 0) 1036 119 = 1 := by rw [ah_m_w, if_neg (by omega), hO4.2 _ _ (by omega), ← eh3]; rfl
        have g7 : ah_m (ah_w h4 1036 59 0) 1036 7 = 0 := by rw [ah_m_w, if_neg (by omega), hO4.2 _ _ (by omega), ← eh3]; rfl
        have g8' : ah_m (ah_w h4 1036 59 0) 1036 8 = -1 := by rw [ah_m_w, if_neg (by omega), hO4.2 _ _ (by omega), ← eh3]; rfl
        have g1' : ah_m (ah_w h4 1036 59 0) 1036 1 = 0 := by
          rw [ah_m_w, if_neg (by omega), hO4.2 _ _ (by omega), ← eh3, ah_m_w, if_neg (by omega), ah_m_w, if_neg (by omega), ah_m_w, if_neg (by omega), ah_m_w, if_neg (by omega)]; exact e12
        have g111 : ah_m (ah_w h4 1036 59 0) 1036 111 = c.length := by
          rw [ah_m_w, if_neg (by omega), hO4.2 _ _ (by omega), ← eh3, ah_m_w, if_neg (by omega), ah_m_w, if_neg (by omega), ah_m_w, if_neg (by omega), ah_m_w, if_neg (by omega)]; exact hQ2.2.2.2.2.2.1
        have gC : Cods (ah_w h4 1036 59 0) c := by
          refine Cods_w (Cods_off ?_ hO4 (fun i w => by omega)) (by omega)
          rw [← eh3]
          exact Cods_w (Cods_w (Cods_w (Cods_w hQ2.2.2.2.2.1 (by omega)) (by omega)) (by omega)) (by omega)
        have hO5 : Off WK h (ah_w h4 1036 59 0) := Off_w (Off_tr hO2' (Off_tr hO3 (Off_mono (fun r i w => Or.inr (Or.inl w)) hO4))) (by unfold WK; omega)
        refine l_367b (bb := bb) (hz := ah_w h4 1036 59 0) gC g111 hcl hty hkd (fun i a b q => by rw [ah_m_w, if_neg (by omega)]; exact e89 i a b q) h8 (R := zqg T nw kd c (zn T) 0 (a0, true)) (fun h6 hG6 hO6 => ?_) (zn T) 0 (a0, true) _ _ (by omega) (by have := zn_i hG; omega) hG5 Off_rfl g118 (by rw [g119]; rfl) (by rw [ea0]; split <;> simp) rfl
        have hq := hQ1 h6 kd c ez hG6 (Off_tr hO5 (Off_mono (fun r i w => by unfold Wp at w; unfold WK; omega) hO6)) (by rw [hO6.2 _ _ (by unfold Wp; omega)]; exact g1') (by rw [hO6.2 _ _ (by unfold Wp; omega)]; exact g7) (by rw [hO6.2 _ _ (by unfold Wp; omega)]; exact g8')
        unfold zqans at hq
        rw [← ea0] at hq
        exact hq
      by_cases g2 : kd < 2
      · rw [if_pos g2] at grow
        simp (disch := omega) only [b_367_109, q_367_133, b_367_133, q_367_160, b_367_160, ↓w_iconst, ↓w_ldc2_w, ↓w_aload_n_0, ↓w_iload_n_1, ↓w_getfield, ↓w_putfield_0, ↓w_nop, ↓w_goto, ↓w_ifCond_eq, ↓w_if_icmp_eq, ↓w_ifCond_ne, ↓w_if_icmp_ge, ↓w_lreturn, ↓w_invokevirtual_0, ↓w_invokevirtual_2, stw_0, stw_i, stw_l, stw_r, ofK0, ofK1, ofK2, lst1, lst2, lkill, kont_none, kont_some, Int.reduceToNat, List.length_cons, List.length_nil, Nat.reduceAdd, Nat.reduceLeDiff, Nat.zero_le, true_and, and_true, if_true, if_false, ne_eq, Int.reduceEq, Int.reduceNeg, not_false_eq_true, not_true_eq_false, ↓reduceIte, Int.reduceLT, Int.reduceLE, and_self, or_true, true_or, or_false, false_or, false_and, and_false, ah_t_w, ah_m_w, ah_n_w, lst1_0, List.tail_cons, w32_i, zbd, lst2_0, mt_1036a hX2.1, hne, h52, h62, g2]
        exact grow _ rfl
      · rw [if_neg g2] at grow
        simp (disch := omega) only [b_367_109, q_367_133, b_367_133, q_367_160, b_367_160, q_367_172, b_367_172, ↓w_iconst, ↓w_lconst, ↓w_ldc2_w, ↓w_aload_n_0, ↓w_iload_n_1, ↓w_getfield, ↓w_putfield_0, ↓w_nop, ↓w_goto, ↓w_ifCond_eq, ↓w_if_icmp_eq, ↓w_ifCond_ne, ↓w_if_icmp_ge, ↓w_lreturn, ↓w_invokevirtual_0, ↓w_invokevirtual_2, stw_0, stw_i, stw_l, stw_r, ofK0, ofK1, ofK2, lst1, lst2, lkill, kont_none, kont_some, Int.reduceToNat, List.length_cons, List.length_nil, Nat.reduceAdd, Nat.reduceLeDiff, Nat.zero_le, true_and, and_true, if_true, if_false, ne_eq, Int.reduceEq, Int.reduceNeg, not_false_eq_true, not_true_eq_false, ↓reduceIte, Int.reduceLT, Int.reduceLE, and_self, or_true, true_or, or_false, false_or, false_and, and_false, ah_t_w, ah_m_w, ah_n_w, lst1_0, List.tail_cons, w32_i, zbd, lst2_0, mt_1036a hX2.1, hne, h52, h62, g2]
        exact grow _ rfl
    have hz0 := @zsk_le 0 n t hv1.1
    unfold zqs at bad109 behind told
    refine c_368 hX1 (fun h2 z e hB hO2 => ?_) (fun h2 e hX2 hO2 => ?_)
    · rw [if_pos e] at bad109
      have e5 := hB.2.1; have hk := hB.2.2.2
      simp (disch := omega) only [b_367_16, q_367_98, b_367_98, ↓w_iconst, ↓w_aload_n_0, ↓w_iload_n_1, ↓w_istore_n_1, ↓w_getfield, ↓w_putfield_0, ↓w_putfield_3, ↓w_nop, ↓w_goto, ↓w_ifCond_ne, ↓w_if_icmp_ge, ↓w_invokevirtual_0, stw_0, stw_i, stw_l, stw_r, ofK0, ofK1, ofK2, lst1, lst2, lkill, kont_none, kont_some, Int.reduceToNat, List.length_cons, List.length_nil, Nat.reduceAdd, Nat.reduceLeDiff, Nat.zero_le, true_and, and_true, if_true, if_false, ne_eq, Int.reduceEq, Int.reduceNeg, not_false_eq_true, not_true_eq_false, ↓reduceIte, Int.reduceLT, Int.reduceLE, and_self, or_true, true_or, or_false, false_or, false_and, and_false, ah_t_w, ah_m_w, ah_n_w, lst1_0, List.tail_cons, w32_i, zbd, lst2_0, mt_1036a hB.1, e5, hk]
      exact bad109 h2 1 _ _ rfl hB (Off_tr hO1 (Off_mono (fun r i w => Or.inl (Or.inl (Wlx_Q w))) hO2)) (by rw [hO2.2 _ _ (by unfold Wlx; omega)]; exact s1)
    · rw [if_neg e] at bad109 behind told
      have hkr := zkd_r hz0.2 e
      generalize zkd t n (zsk t n 0) = kd at *
      have hQ2 := MQ_lx hQ1' hX2 hO2 (fun r i w => w)
      have h52 := hX2.2.2.2.2.1
      have hO2' : Off WK h h2 := Off_tr hO1 (Off_mono (fun r i w => Or.inl (Or.inl (Wlx_Q w))) hO2)
      have s12 : ah_m h2 1036 1 = 0 := by rw [hO2.2 _ _ (by unfold Wlx; omega)]; exact s1
      have s13 : ∀ h', Off WZ h2 h' → ah_m h' 1036 1 = 0 := fun h' hO' => by rw [hO'.2 _ _ (by unfold WZ WQ; omega)]; exact s12
      by_cases g3 : kd < 3
      · rw [if_pos g3] at bad109 behind told
        simp (disch := omega) only [b_367_16, ↓w_iconst, ↓w_aload_n_0, ↓w_iload_n_1, ↓w_istore_n_1, ↓w_getfield, ↓w_putfield_0, ↓w_putfield_3, ↓w_goto, ↓w_ifCond_ne, ↓w_if_icmp_ge, ↓w_invokevirtual_0, stw_0, stw_i, stw_l, stw_r, ofK0, ofK1, ofK2, lst1, lst2, lkill, kont_none, kont_some, Int.reduceToNat, List.length_cons, List.length_nil, Nat.reduceAdd, Nat.reduceLeDiff, Nat.zero_le, true_and, and_true, if_true, if_false, ne_eq, Int.reduceEq, Int.reduceNeg, not_false_eq_true, not_true_eq_false, ↓reduceIte, Int.reduceLT, Int.reduceLE, and_self, or_true, true_or, or_false, false_or, false_and, and_false, ah_t_w, ah_m_w, ah_n_w, lst1_0, List.tail_cons, w32_i, zbd, lst2_0, mt_1036a hX2.1, h52, g3]
        refine c_369 hQ2 (fun h3 kk pp e3 hB hO3 => ?_) (fun h3 k1 c1 e3 hQ3 hO3 => ?_) (fun h3 p e3 hps hpb hX3 hO3 => ?_)
        · simp (disch := omega) only [b_367_16, ↓w_iconst, ↓w_aload_n_0, ↓w_iload_n_1, ↓w_istore_n_1, ↓w_getfield, ↓w_putfield_0, ↓w_putfield_3, ↓w_goto, ↓w_ifCond_ne, ↓w_if_icmp_ge, ↓w_invokevirtual_0, stw_0, stw_i, stw_l, stw_r, ofK0, ofK1, ofK2, lst1, lst2, lkill, kont_none, kont_some, Int.reduceToNat, List.length_cons, List.length_nil, Nat.reduceAdd, Nat.reduceLeDiff, Nat.zero_le, true_and, and_true, if_true, if_false, ne_eq, Int.reduceEq, Int.reduceNeg, not_false_eq_true, not_true_eq_false, ↓reduceIte, Int.reduceLT, Int.reduceLE, and_self, or_true, true_or, or_false, false_or, false_and, and_false, ah_t_w, ah_m_w, ah_n_w, lst1_0, List.tail_cons, w32_i, zbd, lst2_0]
          exact bad109 h3 kk pp _ (by rw [e3]) hB (Off_tr hO2' (Off_mono (fun r i w => Or.inl w) hO3)) (s13 h3 hO3)
        · simp (disch := omega) only [b_367_16, ↓w_iconst, ↓w_aload_n_0, ↓w_iload_n_1, ↓w_istore_n_1, ↓w_getfield, ↓w_putfield_0, ↓w_putfield_3, ↓w_goto, ↓w_ifCond_ne, ↓w_if_icmp_ge, ↓w_invokevirtual_0, stw_0, stw_i, stw_l, stw_r, ofK0, ofK1, ofK2, lst1, lst2, lkill, kont_none, kont_some, Int.reduceToNat, List.length_cons, List.length_nil, Nat.reduceAdd, Nat.reduceLeDiff, Nat.zero_le, true_and, and_true, if_true, if_false, ne_eq, Int.reduceEq, Int.reduceNeg, not_false_eq_true, not_true_eq_false, ↓reduceIte, Int.reduceLT, Int.reduceLE, and_self, or_true, true_or, or_false, false_or, false_and, and_false, ah_t_w, ah_m_w, ah_n_w, lst1_0, List.tail_cons, w32_i, zbd, lst2_0]
          have hpr := (zxt_pr (t := t) (n := n) (zF n) 0 (zsk t n 0 + zkl kd) 0 (by omega) (by omega) (by omega) (by omega)).1 k1 c1 e3
          have hty := (zxt_ty _ _ _ _ _ _ (by omega) (by omega) e3).1 (by omega) []
          by_cases g4 : zB t n (zsk t n k1) = -1
          · exact told h3 k1 kd c1 true ⟨hkr.1, hkr.2.1⟩ hQ3 (by omega) hty g4 (by rw [e3]; simp only; rw [if_pos g4]) (Off_tr hO2' (Off_mono (fun r i w => Or.inl w) hO3)) (s13 h3 hO3)
          · exact behind h3 k1 _ hQ3.1 g4 (by rw [e3]; simp only; rw [if_neg g4]) (Off_tr hO2' (Off_mono (fun r i w => Or.inl w) hO3)) (s13 h3 hO3)
        · simp (disch := omega) only [b_367_16, ↓w_iconst, ↓w_aload_n_0, ↓w_iload_n_1, ↓w_istore_n_1, ↓w_getfield, ↓w_putfield_0, ↓w_putfield_3, ↓w_goto, ↓w_ifCond_ne, ↓w_if_icmp_ge, ↓w_invokevirtual_0, stw_0, stw_i, stw_l, stw_r, ofK0, ofK1, ofK2, lst1, lst2, lkill, kont_none, kont_some, Int.reduceToNat, List.length_cons, List.length_nil, Nat.reduceAdd, Nat.reduceLeDiff, Nat.zero_le, true_and, and_true, if_true, if_false, ne_eq, Int.reduceEq, Int.reduceNeg, not_false_eq_true, not_true_eq_false, ↓reduceIte, Int.reduceLT, Int.reduceLE, and_self, or_true, true_or, or_false, false_or, false_and, and_false, ah_t_w, ah_m_w, ah_n_w, lst1_0, List.tail_cons, w32_i, zbd, lst2_0]
          exact behind h3 p _ hX3 (by rw [hps]; exact hpb) (by rw [e3, hps]) (Off_tr hO2' (Off_mono (fun r i w => Or.inl w) hO3)) (s13 h3 hO3)
      · rw [if_neg g3] at bad109 behind told
        simp (disch := omega) only [b_367_16, q_367_98, b_367_98, ↓w_iconst, ↓w_aload_n_0, ↓w_iload_n_1, ↓w_istore_n_1, ↓w_getfield, ↓w_putfield_0, ↓w_putfield_3, ↓w_nop, ↓w_goto, ↓w_ifCond_ne, ↓w_if_icmp_ge, ↓w_invokevirtual_0, stw_0, stw_i, stw_l, stw_r, ofK0, ofK1, ofK2, lst1, lst2, lkill, kont_none, kont_some, Int.reduceToNat, List.length_cons, List.length_nil, Nat.reduceAdd, Nat.reduceLeDiff, Nat.zero_le, true_and, and_true, if_true, if_false, ne_eq, Int.reduceEq, Int.reduceNeg, not_false_eq_true, not_true_eq_false, ↓reduceIte, Int.reduceLT, Int.reduceLE, and_self, or_true, true_or, or_false, false_or, false_and, and_false, ah_t_w, ah_m_w, ah_n_w, lst1_0, List.tail_cons, w32_i, zbd, lst2_0, mt_1036a hX2.1, h52, g3]
        refine c_261 (MQ_Z.1 hQ2) trivial (by simp; omega) (by omega) (fun h3 kk pp e3 hB _ hO3 => ?_) (fun h3 k1 c1 e3 hZ3 hO3 => ?_)
        · simp (disch := omega) only [b_367_98, ↓w_aload_n_0, ↓w_getfield, ↓w_nop, ↓w_ifCond_ne, ↓w_invokevirtual_0, stw_0, stw_i, stw_l, stw_r, ofK0, ofK1, ofK2, lst1, lst2, lkill, kont_none, kont_some, Int.reduceToNat, List.length_cons, List.length_nil, Nat.reduceAdd, Nat.reduceLeDiff, Nat.zero_le, true_and, and_true, if_true, if_false, ne_eq, Int.reduceEq, Int.reduceNeg, not_false_eq_true, not_true_eq_false, ↓reduceIte, Int.reduceLT, Int.reduceLE, and_self, or_true, true_or, or_false, false_or, false_and, and_false, ah_t_w, ah_m_w, ah_n_w, lst1_0, List.tail_cons, w32_i, zbd, lst2_0]
          exact bad109 h3 kk pp _ (by rw [e3]) hB (Off_tr hO2' (Off_mono (fun r i w => Or.inl w) hO3)) (s13 h3 hO3)
        · simp (disch := omega) only [b_367_98, ↓w_aload_n_0, ↓w_getfield, ↓w_nop, ↓w_ifCond_ne, ↓w_invokevirtual_0, stw_0, stw_i, stw_l, stw_r, ofK0, ofK1, ofK2, lst1, lst2, lkill, kont_none, kont_some, Int.reduceToNat, List.length_cons, List.length_nil, Nat.reduceAdd, Nat.reduceLeDiff, Nat.zero_le, true_and, and_true, if_true, if_false, ne_eq, Int.reduceEq, Int.reduceNeg, not_false_eq_true, not_true_eq_false, ↓reduceIte, Int.reduceLT, Int.reduceLE, and_self, or_true, true_or, or_false, false_or, false_and, and_false, ah_t_w, ah_m_w, ah_n_w, lst1_0, List.tail_cons, w32_i, zbd, lst2_0]
          have hpr := (zex_pr (hm := false) (t := t) (n := n) (zF n) 0 (zsk t n 0 + zkl kd) 0 (by omega) (by omega) (by omega) (by omega)).1 k1 c1 e3
          have hty := (zex_ty _ _ _ _ _ _ (by omega) (by omega) e3).1 (by omega) []
          have hQ3 : MQs false t n k1 [] [] c1 0 h3 := MQ_Z.2 (by simpa using hZ3)
          by_cases g4 : zB t n (zsk t n k1) = -1
          · exact told h3 k1 kd c1 false ⟨hkr.1, hkr.2.1⟩ hQ3 (by omega) hty g4 (by rw [e3]; simp only; rw [if_pos g4]) (Off_tr hO2' (Off_mono (fun r i w => Or.inl w) hO3)) (s13 h3 hO3)
          · exact behind h3 k1 _ hQ3.1 g4 (by rw [e3]; simp only; rw [if_neg g4]) (Off_tr hO2' (Off_mono (fun r i w => Or.inl w) hO3)) (s13 h3 hO3)
end ASK3
