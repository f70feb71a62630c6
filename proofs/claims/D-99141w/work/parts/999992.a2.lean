/-! ===== X: acts that can be undone ===== -/
/-- the states kept: each once -/
def KP (h : AH) : Prop := (∀ k, 0 ≤ k → k < 20 → isS (ah_m h 119 k) ∧ 120 ≤ ah_m h 119 k) ∧ ∀ j k, 0 ≤ j → j < 20 → 0 ≤ k → k < 20 → j ≠ k → ah_m h 119 j ≠ ah_m h 119 k
/-- kept rows, the latest first, from place o on -/
def XUo (T : Int → Int → Int) (h : AH) (o : Int) : List (Int → Int) → Prop
  | [] => True
  | r :: l => (XS T r (ah_m h 119 (o + l.length)) h ∧ 0 ≤ r 24 ∧ r 24 ≤ 40) ∧ XUo T h o l
def XU (T : Int → Int → Int) (ul : List (Int → Int)) (h : AH) : Prop := ah_m h 1 20 = ul.length ∧ ul.length ≤ 20 ∧ KP h ∧ XUo T h 0 ul
def Wkp (r i : Int) : Prop := (120 ≤ r ∧ r < 1020 ∧ ¬ fix r i) ∨ r = 119 ∨ (r = 1 ∧ i = 20)
section A2
variable {W : Int → Int → Prop} {d : Nat} {h h' h1 h0 : AH} {Q : QQ} {x y z m k s l w a b v n p r o i f D0 D1 rm fr R : Int} {S T T' : Int → Int → Int} {t nw nw' pt of tp sr hm g : Int → Int} {tl : ALoc} {c : Int × Int × Int} {ul : List (Int → Int)}
set_option maxHeartbeats 4000000
theorem KP_off (hP : KP h) (hO : Off W h h') (hW : ∀ r i, W r i → r ≠ 119) : KP h' := by
  have e : ∀ k, ah_m h' 119 k = ah_m h 119 k := fun k => hO.2 _ _ (fun w => hW _ _ w rfl)
  exact ⟨fun k a b => by rw [e]; exact hP.1 k a b, fun j k a b c d ne => by rw [e, e]; exact hP.2 j k a b c d ne⟩
theorem XUo_off (hP : KP h) (hO : Off W h h') (hW : ∀ r i, W r i → ¬ (119 ≤ r ∧ r < 1020)) (o0 : 0 ≤ o) : ∀ (L : List (Int → Int)), o + L.length ≤ 20 → XUo T h o L → XUo T h' o L := by
  intro L
  induction L with
  | nil => intro _ _; trivial
  | cons r L ih =>
    intro hl hx
    simp only [List.length_cons] at hl
    have e : ah_m h' 119 (o + L.length) = ah_m h 119 (o + L.length) := hO.2 _ _ (fun w => by have := hW _ _ w; omega)
    have hk := hP.1 (o + L.length) (by omega) (by omega)
    refine ⟨⟨?_, hx.1.2⟩, ih (by omega) hx.2⟩
    rw [e]
    exact XS_off hx.1.1 hx.1.2.2 hO (fun r i w => by have := hW r i w; have h1 := hk.1; unfold isS at h1; omega)
theorem XU_off (hU : XU T ul h) (hO : Off W h h') (hW : ∀ r i, W r i → ¬ (119 ≤ r ∧ r < 1020) ∧ ¬ (r = 1 ∧ i = 20)) : XU T ul h' :=
  ⟨by rw [hO.2 _ _ (fun w => (hW _ _ w).2 ⟨rfl, rfl⟩)]; exact hU.1, hU.2.1, KP_off hU.2.2.1 hO (fun r i w => by have := (hW r i w).1; omega), XUo_off hU.2.2.1 hO (fun r i w => (hW r i w).1) (by omega) ul (by have := hU.2.1; omega) hU.2.2.2⟩
theorem XS_c (hS : XS T nw s h) (n8 : 0 ≤ T 1072 4 ∧ T 1072 4 ≤ 8) (n6 : 0 ≤ T 1072 5 ∧ T 1072 5 ≤ 6) (h40 : 0 ≤ nw 24 ∧ nw 24 ≤ 40) (he : ∀ i, 0 ≤ i → i < 225 → nw' i = nw i) : XS T nw' s h := by
  have hzc : zcn T nw' (zn T) 0 = zcn T nw (zn T) 0 := zcn_c _ _ (fun u a b => by rw [he _ (by omega) (by unfold zn at b; omega)])
  refine ⟨hS.1, ⟨?_, ?_, ?_, ?_⟩, fun m p q => ?_, fun m p q => ?_, fun m p q => ?_, fun k i p q u v => ?_, hS.2.2.2.2.2.2⟩
  · rw [s_0 hS, he _ (by omega) (by omega)]
  · rw [s_1 hS, he _ (by omega) (by omega)]
  · rw [s_2 hS, he _ (by omega) (by omega)]
  · rw [s_7 hS, hzc]
  · rw [sp hS p q]; unfold zpl5; rw [he _ (by omega) (by omega), he _ (by omega) (by omega)]
  · rw [so hS p q]; unfold zon5; rw [zat_c n8 (fun i a b => he i (by omega) (by omega))]
  · rw [sb hS p q, he _ (by omega) (by omega)]
  · rw [he 24 (by omega) (by omega)] at q
    rw [he _ (by omega) (by omega)]; exact hS.2.2.2.2.2.1 k i p q u v
theorem XUo_drop : ∀ (L : List (Int → Int)) (x : Int → Int), XUo T h 0 (L ++ [x]) → XUo T h 1 L := by
  intro L
  induction L with
  | nil => intro x _; trivial
  | cons r L ih =>
    intro x hx
    refine ⟨⟨?_, hx.1.2⟩, ih x hx.2⟩
    have : XS T r (ah_m h 119 (0 + ((L ++ [x]).length : Int))) h := hx.1.1
    rw [List.length_append, List.length_singleton] at this
    rw [show (1 : Int) + L.length = 0 + ((L.length + 1 : Nat) : Int) by omega]
    exact this
theorem XUo_ref (hr : ∀ k, 0 ≤ k → k < 19 → ah_m h' 119 k = ah_m h 119 (k + 1)) (hP : KP h) (hO : Off W h h') (hW : ∀ r i, W r i → ¬ (120 ≤ r ∧ r < 1020)) : ∀ (L : List (Int → Int)), L.length ≤ 19 → XUo T h 1 L → XUo T h' 0 L := by
  intro L
  induction L with
  | nil => intro _ _; trivial
  | cons r L ih =>
    intro hl hx
    simp only [List.length_cons] at hl
    have e : ah_m h' 119 (0 + L.length) = ah_m h 119 (1 + L.length) := by rw [hr _ (by omega) (by omega)]; congr 1; omega
    have hk := hP.1 (1 + L.length) (by omega) (by omega)
    refine ⟨⟨?_, hx.1.2⟩, ih (by omega) hx.2⟩
    rw [e]
    exact XS_off hx.1.1 hx.1.2.2 hO (fun r i w => by have := hW r i w; have h1 := hk.1; unfold isS at h1; omega)
theorem Wkp_ok : ∀ r i, Wkp r i → ¬ fix r i ∧ ¬ BRr r ∧ ¬ (r = 1 ∧ i = 0) := by
  intro r i w
  rcases w with w | w | w
  · exact ⟨w.2.2, by unfold BRr; omega, by omega⟩
  · unfold fix BRr isS isV; omega
  · unfold fix BRr isS isV; omega
theorem XA_kp (hA : XA T nw h) (h40 : nw 24 ≤ 40) (hO : Off Wkp h h') (hP : ∀ s, isS s → 120 ≤ s → RP s h') : XA T nw h' := by
  refine ⟨XG_off hA.1 hO Wkp_ok, XS_off hA.2.1 h40 hO (fun r i w => by unfold Wkp at w; omega), XH_off hA.2.2.1 hA.1.2.1 hO (fun r i w => ⟨by unfold Wkp at w; omega, (Wkp_ok r i w).2⟩), fun s hs => ?_⟩
  by_cases g : 120 ≤ s
  · exact hP s hs g
  · exact RP_off (hA.2.2.2 s hs) hO (fun r i w => by unfold Wkp at w; unfold isS at hs; omega)
theorem l_135_18 (hK : XG T h) (hP : KP h) {a1 : Int} (hQ : ∀ h', Off (fun r i => r = 119) h h' → (∀ u, 0 ≤ u → u < 19 → ah_m h' 119 u = ah_m h 119 (u + 1)) → wpB d 135 44 (some (.inr (.inr 1)) :: some (.inr (.inr a1)) :: some (.inl 20) :: tl) [] h' Q) :
    ∀ (j : Nat) (k : Int) h', 1 ≤ k → k + j = 20 → Off (fun r i => r = 119) h h' → (∀ u, 0 ≤ u → u < k - 1 → ah_m h' 119 u = ah_m h 119 (u + 1)) → (∀ u, k - 1 ≤ u → ah_m h' 119 u = ah_m h 119 u) → wpB d 135 18 (some (.inr (.inr 1)) :: some (.inr (.inr a1)) :: some (.inl k) :: tl) [] h' Q := by
  intro j
  induction j with
  | zero =>
    intro k h' k0 k1 hO hu hv
    have e : k = 20 := by omega
    subst e
    simp (disch := omega) only [q_135_18, b_135_18, ↓w_iconst, ↓w_bipush, ↓w_aload_n_0, ↓w_iload_n_2, ↓w_iinc_2, ↓w_isub, ↓w_getfield, ↓w_aaload, ↓w_aastore, ↓w_goto, ↓w_if_icmp_ge, stw_0, stw_i, stw_l, stw_r, ofK0, ofK1, ofK2, lst1, lst2, lkill, kont_none, kont_some, Int.reduceToNat, List.length_cons, List.length_nil, Nat.reduceAdd, Nat.reduceLeDiff, Nat.zero_le, true_and, and_true, if_true, if_false, ne_eq, Int.reduceEq, Int.reduceNeg, not_false_eq_true, not_true_eq_false, ↓reduceIte, Int.reduceLT, Int.reduceLE, and_self, or_true, true_or, or_false, false_or, false_and, and_false, ah_t_w, ah_m_w, ah_n_w, lst1_0, List.tail_cons, w32_i, zbd, lst2_0]
    exact hQ h' hO (fun u u0 u1 => hu u u0 (by omega))
  | succ j ih =>
    intro k h' k0 k1 hO hu hv
    have hlt : ¬ 20 ≤ k := by omega
    have hK' : XG T h' := XG_off hK hO (fun r i w => by unfold fix BRr isS isV; omega)
    have ek := hv k (by omega)
    have pk := hP.1 k (by omega) (by omega)
    have tk : (ah_t h' (ah_m h' 119 k)).1 = 8 := by rw [ek]; exact sz_t hK' pk.1
    have b1 : 0 ≤ k - 1 := by omega
    have b2 : k - 1 < 20 := by omega
    have b3 : 0 ≤ k := by omega
    have b4 : k < 20 := by omega
    rw [q_135_18]
    simp (disch := omega) only [b_135_18, ↓w_iconst, ↓w_bipush, ↓w_aload_n_0, ↓w_iload_n_2, ↓w_iinc_2, ↓w_isub, ↓w_getfield, ↓w_aaload, ↓w_aastore, ↓w_goto, ↓w_if_icmp_ge, stw_0, stw_i, stw_l, stw_r, ofK0, ofK1, ofK2, lst1, lst2, lkill, kont_none, kont_some, Int.reduceToNat, List.length_cons, List.length_nil, Nat.reduceAdd, Nat.reduceLeDiff, Nat.zero_le, true_and, and_true, if_true, if_false, ne_eq, Int.reduceEq, Int.reduceNeg, not_false_eq_true, not_true_eq_false, ↓reduceIte, Int.reduceLT, Int.reduceLE, and_self, or_true, true_or, or_false, false_or, false_and, and_false, ah_t_w, ah_m_w, ah_n_w, lst1_0, List.tail_cons, w32_i, zbd, lst2_0, xt_1a hK', xf_1_19 hK', xt_119a hK', xt_119b hK', hlt, tk, b1, b2, b3, b4, asc, Option.isSome_some]
    refine ih (k + 1) _ (by omega) (by omega) (Off_w hO rfl) (fun u u0 u1 => ?_) (fun u u0 => ?_)
    · rw [ah_m_w]
      by_cases g : u = k - 1
      · rw [if_pos ⟨rfl, g⟩, g, ek]; congr 1; omega
      · rw [if_neg (fun q => g q.2)]; exact hu u u0 (by omega)
    · rw [ah_m_w, if_neg (by omega)]; exact hv u (by omega)
/-- from 62 on: a copy of what is at place n -/
theorem l_135_62 (hA : XA T nw h) (hF : FV nw) (hP : KP h) (e20 : ah_m h 1 20 = n) (hn : n = ul.length) (n1 : n < 20) (hx : XUo T h 0 ul)
    (hQ : ∀ h', XA T nw h' → XU T (nw :: ul) h' → Off Wkp h h' → Q (.inl none) h') : wpB (d + 1) 135 62 (some (.inr (.inr 1)) :: tl) [] h Q := by
  have hK := hA.1
  have n0 : 0 ≤ n := by omega
  have pk := hP.1 n n0 n1
  generalize eo : ah_m h 119 n = o at *
  have tS := sz_t hK pk.1
  have s120 := pk.2
  simp (disch := omega) only [q_135_62, b_135_62, ↓w_iconst, ↓w_aload_n_0, ↓w_dup_i, ↓w_dup_a, ↓w_pop_i, ↓w_pop_a, ↓w_iadd, ↓w_getfield, ↓w_putfield_0, ↓w_aaload, ↓w_return, ↓w_invokevirtual_1, stw_0, stw_i, stw_l, stw_r, ofK0, ofK1, ofK2, lst1, lst2, lkill, kont_none, kont_some, Int.reduceToNat, List.length_cons, List.length_nil, Nat.reduceAdd, Nat.reduceLeDiff, Nat.zero_le, true_and, and_true, if_true, if_false, ne_eq, Int.reduceEq, Int.reduceNeg, not_false_eq_true, not_true_eq_false, ↓reduceIte, Int.reduceLT, Int.reduceLE, and_self, or_true, true_or, or_false, false_or, false_and, and_false, ah_t_w, ah_m_w, ah_n_w, lst1_0, List.tail_cons, w32_i, zbd, lst2_0, xt_1a hK, xf_1_12 hK, xf_1_19 hK, xt_119a hK, xt_119b hK, e20, n0, n1, eo, tS]
  refine c_220 (d := d) hK hA.2.1 pk.1 (by omega) (hA.2.2.2 o pk.1) hF.2.2.2 hF.2.2.1 (fun h1 hK1 hS1 hS2 hO1 => ?_)
  have e20' : ah_m h1 1 20 = n := by rw [hO1.2 _ _ (by unfold Wcp; have := pk.1; unfold isS at this; omega)]; exact e20
  simp (disch := omega) only [b_135_62, ↓w_iconst, ↓w_aload_n_0, ↓w_dup_i, ↓w_dup_a, ↓w_pop_i, ↓w_pop_a, ↓w_iadd, ↓w_getfield, ↓w_putfield_0, ↓w_aaload, ↓w_return, ↓w_invokevirtual_1, stw_0, stw_i, stw_l, stw_r, ofK0, ofK1, ofK2, lst1, lst2, lkill, kont_none, kont_some, Int.reduceToNat, List.length_cons, List.length_nil, Nat.reduceAdd, Nat.reduceLeDiff, Nat.zero_le, true_and, and_true, if_true, if_false, ne_eq, Int.reduceEq, Int.reduceNeg, not_false_eq_true, not_true_eq_false, ↓reduceIte, Int.reduceLT, Int.reduceLE, and_self, or_true, true_or, or_false, false_or, false_and, and_false, ah_t_w, ah_m_w, ah_n_w, lst1_0, List.tail_cons, w32_i, zbd, lst2_0, xt_1a hK1, xf_1_12 hK1, xf_1_19 hK1, xt_119a hK1, xt_119b hK1, e20']
  have hs := pk.1
  have W1 : ∀ r i, Wcp o r i → Wkp r i := fun r i w => Or.inl ⟨by unfold Wcp at w; unfold isS at hs; omega, by unfold Wcp at w; unfold isS at hs; omega, (Wcp_ok hs r i w).1⟩
  have hO2 : Off Wkp h (ah_w h1 1 20 (n + 1)) := Off_w (Off_mono W1 hO1) (Or.inr (Or.inr ⟨rfl, rfl⟩))
  have hOw : Off (fun r i => r = 1 ∧ i = 20) h1 (ah_w h1 1 20 (n + 1)) := Off_w Off_rfl ⟨rfl, rfl⟩
  have r119 : ∀ k, ah_m (ah_w h1 1 20 (n + 1)) 119 k = ah_m h 119 k := fun k => by rw [ah_m_w, if_neg (by omega), hO1.2 _ _ (by unfold Wcp; unfold isS at hs; omega)]
  have hP2 : KP (ah_w h1 1 20 (n + 1)) := ⟨fun k a b => by rw [r119]; exact hP.1 k a b, fun j k a b c d ne => by rw [r119, r119]; exact hP.2 j k a b c d ne⟩
  refine hQ _ (XA_kp hA hF.2.2.2 hO2 (fun s hs' g => ?_)) ⟨?_, ?_, hP2, ⟨?_, hF.2.2⟩, ?_⟩ hO2
  · by_cases e : s = o
    · rw [e]; exact RP_off hS1.2.2.2.2.2.2 hOw (fun r i w => by unfold isS at hs'; omega)
    · refine RP_off (RP_off (hA.2.2.2 s hs') hO1 (fun r i w => by unfold Wcp at w; unfold isS at hs hs'; omega)) hOw (fun r i w => by unfold isS at hs'; omega)
  · rw [ah_m_w, if_pos ⟨rfl, rfl⟩]; simp; omega
  · simp; omega
  · rw [r119, show (0 : Int) + ul.length = n by omega, eo]
    exact XS_off hS1 hF.2.2.2 hOw (fun r i w => by unfold isS at hs; omega)
  · -- the older ones
    have older : ∀ (L : List (Int → Int)), (L.length : Int) ≤ n → XUo T h 0 L → XUo T (ah_w h1 1 20 (n + 1)) 0 L := by
      intro L
      induction L with
      | nil => intro _ _; trivial
      | cons r L ih =>
        intro hl hx
        simp only [List.length_cons] at hl
        have hk := hP.1 (0 + L.length) (by omega) (by omega)
        have hne := hP.2 (0 + L.length) n (by omega) (by omega) n0 n1 (by omega)
        rw [eo] at hne
        refine ⟨⟨?_, hx.1.2⟩, ih (by omega) hx.2⟩
        rw [r119]
        have h9 := hk.1
        refine XS_off (XS_off hx.1.1 hx.1.2.2 hO1 (Wcp_S hs h9 (fun q => hne q.symm))) hx.1.2.2 hOw (fun r i w => by unfold isS at h9; omega)
    exact older ul (by omega) hx
theorem c_135 (hA : XA T nw h) (hF : FV nw) (hU : XU T ul h) (hQ : ∀ h', XA T nw h' → XU T ((nw :: ul).take 20) h' → Off Wkp h h' → Q (.inl none) h') : wpC (d + 2) 135 [.inr (.inr 1)] h Q := by
  have hK := hA.1
  have hP := hU.2.2.1
  have e20 := hU.1
  have hl := hU.2.1
  rw [wpC_B]; refine ⟨⟨Nat.zero_lt_succ _, Nat.le_of_ble_eq_true rfl⟩, ?_⟩; simp only [lent]
  by_cases g : (ul.length : Int) = 20
  · have p0 := hP.1 0 (by omega) (by omega)
    simp (disch := omega) only [q_135_0, b_135_0, ↓w_iconst, ↓w_bipush, ↓w_aload_n_0, ↓w_istore_n_2, ↓w_astore_n_1, ↓w_getfield, ↓w_aaload, ↓w_nop, ↓w_if_icmp_ne, stw_0, stw_i, stw_l, stw_r, ofK0, ofK1, ofK2, lst1, lst2, lkill, kont_none, kont_some, Int.reduceToNat, List.length_cons, List.length_nil, Nat.reduceAdd, Nat.reduceLeDiff, Nat.zero_le, true_and, and_true, if_true, if_false, ne_eq, Int.reduceEq, Int.reduceNeg, not_false_eq_true, not_true_eq_false, ↓reduceIte, Int.reduceLT, Int.reduceLE, and_self, or_true, true_or, or_false, false_or, false_and, and_false, ah_t_w, ah_m_w, ah_n_w, lst1_0, List.tail_cons, w32_i, zbd, lst2_0, xt_1a hK, xf_1_19 hK, xt_119a hK, xt_119b hK, e20, g]
    refine l_135_18 hK hP (fun h1 hO1 e1 => ?_) 19 1 h (by omega) (by omega) Off_rfl (fun u u0 u1 => by omega) (fun u _ => rfl)
    have hK1 : XG T h1 := XG_off hK hO1 (fun r i w => by unfold fix BRr isS isV; omega)
    have t0 : (ah_t h1 (ah_m h 119 0)).1 = 8 := sz_t hK1 p0.1
    have e20' : ah_m h1 1 20 = 20 := by rw [hO1.2 _ _ (by omega), e20]; exact g
    simp (disch := omega) only [q_135_44, b_135_44, ↓w_iconst, ↓w_bipush, ↓w_aload_n_0, ↓w_aload_n_1, ↓w_dup_i, ↓w_dup_a, ↓w_isub, ↓w_getfield, ↓w_putfield_0, ↓w_aastore, ↓w_nop, stw_0, stw_i, stw_l, stw_r, ofK0, ofK1, ofK2, lst1, lst2, lkill, kont_none, kont_some, Int.reduceToNat, List.length_cons, List.length_nil, Nat.reduceAdd, Nat.reduceLeDiff, Nat.zero_le, true_and, and_true, if_true, if_false, ne_eq, Int.reduceEq, Int.reduceNeg, not_false_eq_true, not_true_eq_false, ↓reduceIte, Int.reduceLT, Int.reduceLE, and_self, or_true, true_or, or_false, false_or, false_and, and_false, ah_t_w, ah_m_w, ah_n_w, lst1_0, List.tail_cons, w32_i, zbd, lst2_0, xt_1a hK1, xf_1_19 hK1, xt_119a hK1, xt_119b hK1, t0, e20', asc, Option.isSome_some, Int.reduceSub]
    generalize hg : ah_w (ah_w h1 119 19 (ah_m h 119 0)) 1 20 19 = g0
    have hO2 : Off (fun r i => r = 119 ∨ (r = 1 ∧ i = 20)) h g0 := by rw [← hg]; exact Off_w (Off_w (Off_mono (fun r i w => Or.inl w) hO1) (Or.inl rfl)) (Or.inr ⟨rfl, rfl⟩)
    have hO2' : Off Wkp h g0 := Off_mono (fun r i w => Or.inr w) hO2
    have rr : ∀ u, 0 ≤ u → u < 20 → ah_m g0 119 u = ah_m h 119 (if u = 19 then 0 else u + 1) := fun u u0 u1 => by
      rw [← hg, ah_m_w, if_neg (by omega), ah_m_w]
      by_cases q : u = 19
      · rw [if_pos ⟨rfl, q⟩, if_pos q]
      · rw [if_neg (fun z => q z.2), if_neg q, e1 u u0 (by omega)]
    have hP2 : KP g0 := by
      refine ⟨fun k a b => ?_, fun j k a b c d e => ?_⟩
      · rw [rr k a b]; split
        · exact hP.1 _ (by omega) (by omega)
        · exact hP.1 _ (by omega) (by omega)
      · rw [rr j a b, rr k c d]
        exact hP.2 _ _ (by split <;> omega) (by split <;> omega) (by split <;> omega) (by split <;> omega) (by split <;> split <;> omega)
    have hA2 : XA T nw g0 := XA_kp hA hF.2.2.2 hO2' (fun s hs q => RP_off (hA.2.2.2 s hs) hO2 (fun r i w => by unfold isS at hs; omega))
    have hne : ul ≠ [] := fun q => by rw [q] at g; simp at g
    have hdl := List.dropLast_concat_getLast hne
    have hlen : ul.dropLast.length = 19 := by rw [List.length_dropLast]; omega
    have hx1 : XUo T h 1 ul.dropLast := by
      have := hU.2.2.2
      rw [← hdl] at this
      exact XUo_drop _ _ this
    have hx2 : XUo T g0 0 ul.dropLast := XUo_ref (fun k a b => by rw [rr k a (by omega), if_neg (by omega)]) hP hO2 (fun r i w => by omega) ul.dropLast (by omega) hx1
    have etk : (nw :: ul).take 20 = nw :: ul.dropLast := by
      rw [List.take_succ_cons, List.dropLast_eq_take]
      congr 2; omega
    rw [etk] at hQ
    exact l_135_62 (n := 19) hA2 hF hP2 (by rw [← hg, ah_m_w, if_pos ⟨rfl, rfl⟩]) (by omega) (by omega) hx2 (fun h' a b c => hQ h' a b (Off_tr hO2' c))
  · have etk : (nw :: ul).take 20 = nw :: ul := List.take_of_length_le (by simp; omega)
    rw [etk] at hQ
    simp (disch := omega) only [q_135_0, b_135_0, ↓w_iconst, ↓w_bipush, ↓w_aload_n_0, ↓w_istore_n_2, ↓w_astore_n_1, ↓w_getfield, ↓w_aaload, ↓w_nop, ↓w_if_icmp_ne, stw_0, stw_i, stw_l, stw_r, ofK0, ofK1, ofK2, lst1, lst2, lkill, kont_none, kont_some, Int.reduceToNat, List.length_cons, List.length_nil, Nat.reduceAdd, Nat.reduceLeDiff, Nat.zero_le, true_and, and_true, if_true, if_false, ne_eq, Int.reduceEq, Int.reduceNeg, not_false_eq_true, not_true_eq_false, ↓reduceIte, Int.reduceLT, Int.reduceLE, and_self, or_true, true_or, or_false, false_or, false_and, and_false, ah_t_w, ah_m_w, ah_n_w, lst1_0, List.tail_cons, w32_i, zbd, lst2_0, xt_1a hK, xf_1_19 hK, xt_119a hK, xt_119b hK, e20, g]
    exact l_135_62 (n := ul.length) hA hF hP e20 rfl (by omega) hU.2.2.2 hQ
end A2
