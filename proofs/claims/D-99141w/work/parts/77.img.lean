/-! ===== M: images, the tape ===== -/
def zck2 (f : Int → Int) : Nat → Int → Int → Int
  | 0, _, c => c
  | j + 1, k, c => zck2 f j (k + 1) ((3 * c + f k) % 251)
def zgi (nw : Int → Int) (k : Int) : Int := if nw (2 + k) = -1 then 255 else nw (2 + k)
def zfb (nw : Int → Int) (f : Int) : List Int := [nw (18 + f) / 256, nw (18 + f) % 256]
def zfl2 (nw : Int → Int) : Nat → List Int
  | 0 => []
  | j + 1 => zfl2 nw j ++ zfb nw j
def zml (nw : Int → Int) : Nat → List Int
  | 0 => []
  | j + 1 => zml nw j ++ [zgi nw j]
def zim0 (T : Int → Int → Int) (nw : Int → Int) : List Int := [nw 0 / 256, nw 0 % 256, nw 1] ++ zml nw (2 * T 1072 4).toNat ++ zfl2 nw (T 1072 5).toNat
def zlf (l : List Int) (i : Int) : Int := l.getD i.toNat 0
def zimg (T : Int → Int → Int) (nw : Int → Int) : List Int := zim0 T nw ++ [zck2 (zlf (zim0 T nw)) (zim0 T nw).length 0 59]
def OutL (h : AH) (l : List Int) : Prop := ah_m h 1036 121 = l.length ∧ ∀ i : Int, 0 ≤ i → i < l.length → ah_m h 1120 i = zlf l i
def WI (r i : Int) : Prop := r = 1120 ∨ (r = 1036 ∧ i = 121)
section IMG
variable {d : Nat} {h h0 : AH} {Q : QQ} {x y z m k s l w a b c v n t p th D0 D1 f fr : Int} {T : Int → Int → Int} {nw g tp sr : Int → Int}
set_option maxHeartbeats 2000000
theorem zlf_app {l l2 : List Int} {i : Int} (h0 : 0 ≤ i) (h1 : i < l.length) : zlf (l ++ l2) i = zlf l i := by
  unfold zlf; rw [List.getD_eq_getElem?_getD, List.getD_eq_getElem?_getD, List.getElem?_append_left (by omega)]
theorem zlf_end {l : List Int} {i : Int} (h1 : i = l.length) : zlf (l ++ [v]) i = v := by
  subst h1; unfold zlf; simp
theorem OutL_push {l : List Int} (hl : OutL h l) : OutL (ah_w (ah_w h 1120 l.length v) 1036 121 (l.length + 1)) (l ++ [v]) := by
  refine ⟨?_, fun i a b => ?_⟩
  · rw [ah_m_w, if_pos ⟨rfl, rfl⟩]; simp
  · rw [ah_m_w, if_neg (by omega), ah_m_w]
    simp only [List.length_append, List.length_cons, List.length_nil] at b
    by_cases e : i = l.length
    · rw [if_pos ⟨rfl, e⟩, zlf_end e]
    · rw [if_neg (fun q => e q.2), zlf_app a (by omega)]; exact hl.2 i a (by omega)
theorem c_378 {l : List Int} (hM : MI h) (hl : OutL h l) (h32 : l.length < 32) (hQ : ∀ h', OutL h' (l ++ [v]) → Off WI h h' → Q (.inl none) h') : wpC (d + 1) 378 [.inr (.inr 1036), .inl v] h Q := by
  have e := hl.1
  rw [wpC_B]; refine ⟨⟨Nat.zero_lt_succ _, Nat.le_of_ble_eq_true rfl⟩, ?_⟩; simp only [lent]
  simp (disch := omega) only [q_378_0, b_378_0, ↓w_iconst, ↓w_aload_n_0, ↓w_iload_n_1, ↓w_dup_i, ↓w_dup_a, ↓w_iadd, ↓w_getfield, ↓w_putfield_0, ↓w_iastore, ↓w_return, stw_0, stw_i, stw_l, stw_r, ofK0, ofK1, ofK2, lst1, lst2, lkill, kont_none, kont_some, Int.reduceToNat, List.length_cons, List.length_nil, Nat.reduceAdd, Nat.reduceLeDiff, Nat.zero_le, true_and, and_true, if_true, if_false, ne_eq, Int.reduceEq, Int.reduceNeg, not_false_eq_true, not_true_eq_false, ↓reduceIte, Int.reduceLT, Int.reduceLE, and_self, or_true, true_or, or_false, false_or, false_and, and_false, ah_t_w, ah_m_w, ah_n_w, lst1_0, List.tail_cons, w32_i, zbd, lst2_0, mt_1036a hM, mt_1120a hM, mt_1120b hM, mf_120 hM, e]
  exact hQ _ (OutL_push hl) (Off_w (Off_w Off_rfl (by unfold WI; omega)) (by unfold WI; omega))
theorem l_379 {r : Int} (ht : (ah_t h r).1 = -1) (hb : ∀ i, 0 ≤ i → i < n → 0 ≤ ah_m h r i ∧ ah_m h r i ≤ 255) (hn : 0 ≤ n ∧ n ≤ (ah_t h r).2) (h16 : n ≤ 1600) : ∀ (j : Nat) (k c : Int), 0 ≤ k → k + j = n → 0 ≤ c → c ≤ 250 → wpB d 379 5 [some (.inr (.inr r)), some (.inl n), some (.inl c), some (.inl k)] [] h (fun o h1 => o = .inl (some (.inl (zck2 (ah_m h r) j k c))) ∧ h1 = h) := by
  intro j
  induction j with
  | zero =>
    intro k c k0 k1 c0 c1
    have hlt : ¬ k < n := by omega
    simp (disch := omega) only [q_379_5, b_379_5, q_379_28, b_379_28, ↓w_iconst, ↓w_sipush, ↓w_aload_n_0, ↓w_iload_n_1, ↓w_iload_n_2, ↓w_iload_n_3, ↓w_iinc_3, ↓w_istore_n_2, ↓w_iadd, ↓w_imul, ↓w_irem, ↓w_iaload, ↓w_goto, ↓w_if_icmp_ge, ↓w_ireturn0, stw_0, stw_i, stw_l, stw_r, ofK0, ofK1, ofK2, lst1, lst2, lkill, kont_none, kont_some, Int.reduceToNat, List.length_cons, List.length_nil, Nat.reduceAdd, Nat.reduceLeDiff, Nat.zero_le, true_and, and_true, if_true, if_false, ne_eq, Int.reduceEq, Int.reduceNeg, not_false_eq_true, not_true_eq_false, ↓reduceIte, Int.reduceLT, Int.reduceLE, and_self, or_true, true_or, or_false, false_or, false_and, and_false, ah_t_w, ah_m_w, ah_n_w, lst1_0, List.tail_cons, w32_i, zbd, lst2_0, hlt, zck2]
  | succ j ih =>
    intro k c k0 k1 c0 c1
    have hlt : k < n := by omega
    have hbk := hb k k0 hlt
    have e1 : (3 * c + ah_m h r k).tmod 251 = (3 * c + ah_m h r k) % 251 := Int.tmod_eq_emod_of_nonneg (by omega)
    have ih := ih (k + 1) ((3 * c + ah_m h r k) % 251) (by omega) (by omega) (by omega) (by omega)
    rw [q_379_5]
    simp (disch := omega) only [b_379_5, ↓w_iconst, ↓w_sipush, ↓w_aload_n_0, ↓w_iload_n_1, ↓w_iload_n_2, ↓w_iload_n_3, ↓w_iinc_3, ↓w_istore_n_2, ↓w_iadd, ↓w_imul, ↓w_irem, ↓w_iaload, ↓w_goto, ↓w_if_icmp_ge, stw_0, stw_i, stw_l, stw_r, ofK0, ofK1, ofK2, lst1, lst2, lkill, kont_none, kont_some, Int.reduceToNat, List.length_cons, List.length_nil, Nat.reduceAdd, Nat.reduceLeDiff, Nat.zero_le, true_and, and_true, if_true, if_false, ne_eq, Int.reduceEq, Int.reduceNeg, not_false_eq_true, not_true_eq_false, ↓reduceIte, Int.reduceLT, Int.reduceLE, and_self, or_true, true_or, or_false, false_or, false_and, and_false, ah_t_w, ah_m_w, ah_n_w, lst1_0, List.tail_cons, w32_i, zbd, lst2_0, hlt, ht, e1, zck2]
    exact ih
theorem c_379 {r : Int} (ht : (ah_t h r).1 = -1) (hb : ∀ i, 0 ≤ i → i < n → 0 ≤ ah_m h r i ∧ ah_m h r i ≤ 255) (hn : 0 ≤ n ∧ n ≤ (ah_t h r).2) (h16 : n ≤ 1600) : wpC (d + 1) 379 [.inr (.inr r), .inl n] h Q ↔ Q (.inl (some (.inl (zck2 (ah_m h r) n.toNat 0 59)))) h := by
  apply CT_iff; apply CT_of; rw [wpC_B]; refine ⟨⟨Nat.zero_lt_succ _, Nat.le_of_ble_eq_true rfl⟩, ?_⟩; simp only [lent]
  simp (disch := omega) only [q_379_0, b_379_0, ↓w_iconst, ↓w_bipush, ↓w_istore_n_2, ↓w_istore_n_3, ↓w_nop, stw_0, stw_i, stw_l, stw_r, ofK0, ofK1, ofK2, lst1, lst2, lkill, kont_none, kont_some, Int.reduceToNat, List.length_cons, List.length_nil, Nat.reduceAdd, Nat.reduceLeDiff, Nat.zero_le, true_and, and_true, if_true, if_false, ne_eq, Int.reduceEq, Int.reduceNeg, not_false_eq_true, not_true_eq_false, ↓reduceIte, Int.reduceLT, Int.reduceLE, and_self, or_true, true_or, or_false, false_or, false_and, and_false, ah_t_w, ah_m_w, ah_n_w, lst1_0, List.tail_cons, w32_i, zbd, lst2_0]
  exact l_379 ht hb hn h16 n.toNat 0 59 (by omega) (by omega) (by omega) (by omega)
theorem zml_len : ∀ j, (zml nw j).length = j
  | 0 => rfl
  | j + 1 => by simp [zml, zml_len j]
theorem zfl2_len : ∀ j, (zfl2 nw j).length = 2 * j
  | 0 => rfl
  | j + 1 => by simp [zfl2, zfb, zfl2_len j]; omega
theorem zck2_c {f g : Int → Int} : ∀ (j : Nat) (k c : Int), (∀ i, k ≤ i → i < k + j → f i = g i) → zck2 f j k c = zck2 g j k c := by
  intro j
  induction j with
  | zero => intro k c e; rfl
  | succ j ih =>
    intro k c e
    simp only [zck2]
    rw [e k (by omega) (by omega)]
    exact ih _ _ (fun i a b => e i (by omega) (by omega))
theorem WI_f {r i : Int} (w : WI r i) : fre r i ∧ ¬ (1072 ≤ r ∧ r ≤ 1083) := by unfold WI at w; unfold fre; omega
theorem l_377a (hG : MG T nw h) (hQ : ∀ h', OutL h' ([nw 0 / 256, nw 0 % 256, nw 1] ++ zml nw (2 * T 1072 4).toNat) → Off WI h h' → wpB (d + 2) 377 91 [some (.inr (.inr 1036)), some (.inl (2 * T 1072 4))] [] h' Q) :
    ∀ (j : Nat) (k : Nat) h', (k : Int) + j = 2 * T 1072 4 → OutL h' ([nw 0 / 256, nw 0 % 256, nw 1] ++ zml nw k) → Off WI h h' → wpB (d + 2) 377 45 [some (.inr (.inr 1036)), some (.inl k)] [] h' Q := by
  have h8 := hG.2.2.2.1.2.1
  intro j
  induction j with
  | zero =>
    intro k h' k1 hl hO
    have hG' : MG T nw h' := MG_off hG hO (fun r i w => WI_f w)
    have hlt : ¬ (k : Int) < 2 * T 1072 4 := by omega
    have ek : (k : Int) = 2 * T 1072 4 := by omega
    have ek' : (2 * T 1072 4).toNat = k := by omega
    simp (disch := omega) only [q_377_45, b_377_45, ↓w_iconst, ↓w_sipush, ↓w_aload_n_0, ↓w_iload_n_1, ↓w_iadd, ↓w_imul, ↓w_getfield, ↓w_iaload, ↓w_goto, ↓w_if_icmp_ne, ↓w_if_icmp_ge, ↓w_invokevirtual_0, stw_0, stw_i, stw_l, stw_r, ofK0, ofK1, ofK2, lst1, lst2, lkill, kont_none, kont_some, Int.reduceToNat, List.length_cons, List.length_nil, Nat.reduceAdd, Nat.reduceLeDiff, Nat.zero_le, true_and, and_true, if_true, if_false, ne_eq, Int.reduceEq, Int.reduceNeg, not_false_eq_true, not_true_eq_false, ↓reduceIte, Int.reduceLT, Int.reduceLE, and_self, or_true, true_or, or_false, false_or, false_and, and_false, ah_t_w, ah_m_w, ah_n_w, lst1_0, List.tail_cons, w32_i, zbd, lst2_0, mt_1036a hG'.1, mt_1083a hG'.1, mt_1083b hG'.1, mf_62 hG'.1, g_1083 hG', c_281 hG', hlt]
    rw [ek]
    exact hQ _ (by rw [ek']; exact hl) hO
  | succ j ih =>
    intro k h' k1 hl hO
    have hG' : MG T nw h' := MG_off hG hO (fun r i w => WI_f w)
    have hlt : (k : Int) < 2 * T 1072 4 := by omega
    have fin : ∀ v, v = zgi nw k → wpB (d + 2) 377 82 [some (.inr (.inr 1036)), some (.inl (k : Int))] [.inl v, .inr (.inr 1036)] h' Q := by
      intro v ev
      simp (disch := omega) only [q_377_82, b_377_82, ↓w_iinc_1, ↓w_goto, ↓w_invokevirtual_1, stw_0, stw_i, stw_l, stw_r, ofK0, ofK1, ofK2, lst1, lst2, lkill, kont_none, kont_some, Int.reduceToNat, List.length_cons, List.length_nil, Nat.reduceAdd, Nat.reduceLeDiff, Nat.zero_le, true_and, and_true, if_true, if_false, ne_eq, Int.reduceEq, Int.reduceNeg, not_false_eq_true, not_true_eq_false, ↓reduceIte, Int.reduceLT, Int.reduceLE, and_self, or_true, true_or, or_false, false_or, false_and, and_false, ah_t_w, ah_m_w, ah_n_w, lst1_0, List.tail_cons, w32_i, zbd, lst2_0, mt_1036a hG'.1]
      refine c_378 hG'.1 hl (by simp [zml_len]; omega) (fun h2 hl2 hO2 => ?_)
      simp (disch := omega) only [b_377_82, ↓w_iinc_1, ↓w_goto, ↓w_invokevirtual_1, stw_0, stw_i, stw_l, stw_r, ofK0, ofK1, ofK2, lst1, lst2, lkill, kont_none, kont_some, Int.reduceToNat, List.length_cons, List.length_nil, Nat.reduceAdd, Nat.reduceLeDiff, Nat.zero_le, true_and, and_true, if_true, if_false, ne_eq, Int.reduceEq, Int.reduceNeg, not_false_eq_true, not_true_eq_false, ↓reduceIte, Int.reduceLT, Int.reduceLE, and_self, or_true, true_or, or_false, false_or, false_and, and_false, ah_t_w, ah_m_w, ah_n_w, lst1_0, List.tail_cons, w32_i, zbd, lst2_0]
      refine ih (k + 1) h2 (by omega) ?_ (Off_tr hO hO2)
      rw [ev, List.append_assoc] at hl2
      exact hl2
    unfold zgi at fin
    rw [q_377_45]
    by_cases g : nw (2 + k) = -1
    · rw [if_pos g] at fin
      simp (disch := omega) only [b_377_45, ↓w_iconst, ↓w_sipush, ↓w_aload_n_0, ↓w_iload_n_1, ↓w_iadd, ↓w_imul, ↓w_getfield, ↓w_iaload, ↓w_goto, ↓w_if_icmp_ne, ↓w_if_icmp_ge, ↓w_invokevirtual_0, stw_0, stw_i, stw_l, stw_r, ofK0, ofK1, ofK2, lst1, lst2, lkill, kont_none, kont_some, Int.reduceToNat, List.length_cons, List.length_nil, Nat.reduceAdd, Nat.reduceLeDiff, Nat.zero_le, true_and, and_true, if_true, if_false, ne_eq, Int.reduceEq, Int.reduceNeg, not_false_eq_true, not_true_eq_false, ↓reduceIte, Int.reduceLT, Int.reduceLE, and_self, or_true, true_or, or_false, false_or, false_and, and_false, ah_t_w, ah_m_w, ah_n_w, lst1_0, List.tail_cons, w32_i, zbd, lst2_0, mt_1036a hG'.1, mt_1083a hG'.1, mt_1083b hG'.1, mf_62 hG'.1, g_1083 hG', c_281 hG', hlt, g]
      exact fin _ rfl
    · rw [if_neg g] at fin
      simp (disch := omega) only [b_377_45, q_377_74, b_377_74, ↓w_iconst, ↓w_sipush, ↓w_aload_n_0, ↓w_iload_n_1, ↓w_iadd, ↓w_imul, ↓w_getfield, ↓w_iaload, ↓w_nop, ↓w_goto, ↓w_if_icmp_ne, ↓w_if_icmp_ge, ↓w_invokevirtual_0, stw_0, stw_i, stw_l, stw_r, ofK0, ofK1, ofK2, lst1, lst2, lkill, kont_none, kont_some, Int.reduceToNat, List.length_cons, List.length_nil, Nat.reduceAdd, Nat.reduceLeDiff, Nat.zero_le, true_and, and_true, if_true, if_false, ne_eq, Int.reduceEq, Int.reduceNeg, not_false_eq_true, not_true_eq_false, ↓reduceIte, Int.reduceLT, Int.reduceLE, and_self, or_true, true_or, or_false, false_or, false_and, and_false, ah_t_w, ah_m_w, ah_n_w, lst1_0, List.tail_cons, w32_i, zbd, lst2_0, mt_1036a hG'.1, mt_1083a hG'.1, mt_1083b hG'.1, mf_62 hG'.1, g_1083 hG', c_281 hG', hlt, g]
      exact fin _ rfl
theorem l_377b {pre : List Int} (hG : MG T nw h) (hF : FV nw) (hp : pre.length ≤ 19) (hQ : ∀ h' tl, OutL h' (pre ++ zfl2 nw (T 1072 5).toNat) → Off WI h h' → wpB (d + 2) 377 141 (some (.inr (.inr 1036)) :: tl) [] h' Q) :
    ∀ (j : Nat) (k : Nat) h', (k : Int) + j = T 1072 5 → OutL h' (pre ++ zfl2 nw k) → Off WI h h' → wpB (d + 2) 377 93 [some (.inr (.inr 1036)), some (.inl k)] [] h' Q := by
  have h5 := hG.2.2.2.1.2.2.1
  intro j
  induction j with
  | zero =>
    intro k h' k1 hl hO
    have hG' : MG T nw h' := MG_off hG hO (fun r i w => WI_f w)
    have hlt : ¬ (k : Int) < T 1072 5 := by omega
    have ek' : (T 1072 5).toNat = k := by omega
    simp (disch := omega) only [q_377_93, b_377_93, ↓w_bipush, ↓w_sipush, ↓w_aload_n_0, ↓w_iload_n_1, ↓w_iinc_1, ↓w_iadd, ↓w_idiv, ↓w_irem, ↓w_getfield, ↓w_iaload, ↓w_goto, ↓w_if_icmp_ge, ↓w_invokevirtual_0, ↓w_invokevirtual_1, stw_0, stw_i, stw_l, stw_r, ofK0, ofK1, ofK2, lst1, lst2, lkill, kont_none, kont_some, Int.reduceToNat, List.length_cons, List.length_nil, Nat.reduceAdd, Nat.reduceLeDiff, Nat.zero_le, true_and, and_true, if_true, if_false, ne_eq, Int.reduceEq, Int.reduceNeg, not_false_eq_true, not_true_eq_false, ↓reduceIte, Int.reduceLT, Int.reduceLE, and_self, or_true, true_or, or_false, false_or, false_and, and_false, ah_t_w, ah_m_w, ah_n_w, lst1_0, List.tail_cons, w32_i, zbd, lst2_0, mt_1036a hG'.1, mt_1083a hG'.1, mt_1083b hG'.1, mf_62 hG'.1, g_1083 hG', c_299 hG', hlt]
    exact hQ _ _ (by rw [ek']; exact hl) hO
  | succ j ih =>
    intro k h' k1 hl hO
    have hG' : MG T nw h' := MG_off hG hO (fun r i w => WI_f w)
    have hlt : (k : Int) < T 1072 5 := by omega
    have hf := hF.2.1 k (by omega) (by omega)
    have e1 : (nw (18 + k)).tdiv 256 = nw (18 + k) / 256 := Int.tdiv_eq_ediv_of_nonneg hf.1
    have e2 : (nw (18 + k)).tmod 256 = nw (18 + k) % 256 := Int.tmod_eq_emod_of_nonneg hf.1
    rw [q_377_93]
    simp (disch := omega) only [b_377_93, ↓w_bipush, ↓w_sipush, ↓w_aload_n_0, ↓w_iload_n_1, ↓w_iinc_1, ↓w_iadd, ↓w_idiv, ↓w_irem, ↓w_getfield, ↓w_iaload, ↓w_goto, ↓w_if_icmp_ge, ↓w_invokevirtual_0, ↓w_invokevirtual_1, stw_0, stw_i, stw_l, stw_r, ofK0, ofK1, ofK2, lst1, lst2, lkill, kont_none, kont_some, Int.reduceToNat, List.length_cons, List.length_nil, Nat.reduceAdd, Nat.reduceLeDiff, Nat.zero_le, true_and, and_true, if_true, if_false, ne_eq, Int.reduceEq, Int.reduceNeg, not_false_eq_true, not_true_eq_false, ↓reduceIte, Int.reduceLT, Int.reduceLE, and_self, or_true, true_or, or_false, false_or, false_and, and_false, ah_t_w, ah_m_w, ah_n_w, lst1_0, List.tail_cons, w32_i, zbd, lst2_0, mt_1036a hG'.1, mt_1083a hG'.1, mt_1083b hG'.1, mf_62 hG'.1, g_1083 hG', c_299 hG', hlt, e1, e2]
    refine c_378 hG'.1 hl (by simp [zfl2_len]; omega) (fun h2 hl2 hO2 => ?_)
    have hG2 : MG T nw h2 := MG_off hG' hO2 (fun r i w => WI_f w)
    simp (disch := omega) only [b_377_93, ↓w_bipush, ↓w_sipush, ↓w_aload_n_0, ↓w_iload_n_1, ↓w_iinc_1, ↓w_iadd, ↓w_idiv, ↓w_irem, ↓w_getfield, ↓w_iaload, ↓w_goto, ↓w_if_icmp_ge, ↓w_invokevirtual_0, ↓w_invokevirtual_1, stw_0, stw_i, stw_l, stw_r, ofK0, ofK1, ofK2, lst1, lst2, lkill, kont_none, kont_some, Int.reduceToNat, List.length_cons, List.length_nil, Nat.reduceAdd, Nat.reduceLeDiff, Nat.zero_le, true_and, and_true, if_true, if_false, ne_eq, Int.reduceEq, Int.reduceNeg, not_false_eq_true, not_true_eq_false, ↓reduceIte, Int.reduceLT, Int.reduceLE, and_self, or_true, true_or, or_false, false_or, false_and, and_false, ah_t_w, ah_m_w, ah_n_w, lst1_0, List.tail_cons, w32_i, zbd, lst2_0, mt_1036a hG2.1, mt_1083a hG2.1, mt_1083b hG2.1, mf_62 hG2.1, g_1083 hG2, c_299 hG2, e1, e2]
    refine c_378 hG2.1 hl2 (by simp [zfl2_len]; omega) (fun h3 hl3 hO3 => ?_)
    simp (disch := omega) only [b_377_93, ↓w_bipush, ↓w_sipush, ↓w_aload_n_0, ↓w_iload_n_1, ↓w_iinc_1, ↓w_iadd, ↓w_idiv, ↓w_irem, ↓w_getfield, ↓w_iaload, ↓w_goto, ↓w_if_icmp_ge, ↓w_invokevirtual_0, ↓w_invokevirtual_1, stw_0, stw_i, stw_l, stw_r, ofK0, ofK1, ofK2, lst1, lst2, lkill, kont_none, kont_some, Int.reduceToNat, List.length_cons, List.length_nil, Nat.reduceAdd, Nat.reduceLeDiff, Nat.zero_le, true_and, and_true, if_true, if_false, ne_eq, Int.reduceEq, Int.reduceNeg, not_false_eq_true, not_true_eq_false, ↓reduceIte, Int.reduceLT, Int.reduceLE, and_self, or_true, true_or, or_false, false_or, false_and, and_false, ah_t_w, ah_m_w, ah_n_w, lst1_0, List.tail_cons, w32_i, zbd, lst2_0]
    refine ih (k + 1) h3 (by omega) ?_ (Off_tr hO (Off_tr hO2 hO3))
    have : pre ++ zfl2 nw (k + 1) = pre ++ zfl2 nw k ++ [nw (18 + k) / 256] ++ [nw (18 + k) % 256] := by simp [zfl2, zfb]
    rw [this]; exact hl3
theorem zml_b (hG : MG T nw h) : ∀ (j : Nat), (j : Int) ≤ 2 * T 1072 4 → ∀ v ∈ zml nw j, 0 ≤ v ∧ v ≤ 255 := by
  have h8 := hG.2.2.2.1.2.1
  have hN := hG.2.2.2.2
  intro j
  induction j with
  | zero => intro _ v hv; cases hv
  | succ j ih =>
    intro hj v hv
    rcases List.mem_append.1 hv with q | q
    · exact ih (by omega) v q
    · rw [List.mem_singleton] at q
      subst q
      unfold zgi
      have hb := hN.1 ((j : Int) / 2) (by omega) (by omega)
      have : (j : Int) = 2 * ((j : Int) / 2) ∨ (j : Int) = 2 * ((j : Int) / 2) + 1 := by omega
      rcases this with e | e
      · have e2 : 2 + (j : Int) = 2 + 2 * ((j : Int) / 2) := by omega
        rw [e2]; split <;> omega
      · have e2 : 2 + (j : Int) = 3 + 2 * ((j : Int) / 2) := by omega
        rw [e2]; split <;> omega
theorem zfl2_b (hF : FV nw) : ∀ (j : Nat), j ≤ 6 → ∀ v ∈ zfl2 nw j, 0 ≤ v ∧ v ≤ 255 := by
  intro j
  induction j with
  | zero => intro _ v hv; cases hv
  | succ j ih =>
    intro hj v hv
    rcases List.mem_append.1 hv with q | q
    · exact ih (by omega) v q
    · have hf := hF.2.1 j (by omega) (by omega)
      unfold zfb at q
      simp only [List.mem_cons, List.not_mem_nil, or_false] at q
      rcases q with q | q <;> subst q <;> omega
theorem zim0_b (hG : MG T nw h) (hF : FV nw) : ∀ v ∈ zim0 T nw, 0 ≤ v ∧ v ≤ 255 := by
  intro v hv
  have h5 := hG.2.2.2.1.2.2.1
  have hs := hG.2.2.2.2.2.2.2
  have h0 := hF.1
  unfold zim0 at hv
  rcases List.mem_append.1 hv with q | q
  · rcases List.mem_append.1 q with q | q
    · simp only [List.mem_cons, List.not_mem_nil, or_false] at q
      rcases q with q | q | q <;> subst q <;> omega
    · exact zml_b hG _ (by have := hG.2.2.2.1.2.1; omega) v q
  · exact zfl2_b hF _ (by omega) v q
theorem zlf_mem {l : List Int} {i : Int} (h0 : 0 ≤ i) (h1 : i < l.length) : zlf l i ∈ l := by
  unfold zlf
  rw [List.getD_eq_getElem?_getD, List.getElem?_eq_getElem (by omega)]
  exact List.getElem_mem _
theorem zim0_len (hG : MG T nw h) : (zim0 T nw).length = 3 + (2 * T 1072 4).toNat + 2 * (T 1072 5).toNat := by
  unfold zim0; simp [zml_len, zfl2_len]; omega
theorem c_377 (hG : MG T nw h) (hF : FV nw) (hQ : ∀ h', OutL h' (zimg T nw) → Off WI h h' → Q (.inl (some (.inl (zimg T nw).length))) h') : wpC (d + 3) 377 [.inr (.inr 1036)] h Q := by
  have h8 := hG.2.2.2.1.2.1
  have h5 := hG.2.2.2.1.2.2.1
  have h0 := hF.1
  have e1 : (nw 0).tdiv 256 = nw 0 / 256 := Int.tdiv_eq_ediv_of_nonneg h0.1
  have e2 : (nw 0).tmod 256 = nw 0 % 256 := Int.tmod_eq_emod_of_nonneg h0.1
  rw [wpC_B]; refine ⟨⟨Nat.zero_lt_succ _, Nat.le_of_ble_eq_true rfl⟩, ?_⟩; simp only [lent]
  have hG0 : MG T nw (ah_w h 1036 121 0) := MG_f hG (by omega)
  have hl0 : OutL (ah_w h 1036 121 0) [] := ⟨rfl, fun i a b => by simp at b; omega⟩
  have hO0 : Off WI h (ah_w h 1036 121 0) := Off_w Off_rfl (by unfold WI; omega)
  simp (disch := omega) only [q_377_0, b_377_0, ↓w_iconst, ↓w_sipush, ↓w_aload_n_0, ↓w_istore_n_1, ↓w_idiv, ↓w_irem, ↓w_getfield, ↓w_putfield_0, ↓w_iaload, ↓w_nop, ↓w_invokevirtual_1, stw_0, stw_i, stw_l, stw_r, ofK0, ofK1, ofK2, lst1, lst2, lkill, kont_none, kont_some, Int.reduceToNat, List.length_cons, List.length_nil, Nat.reduceAdd, Nat.reduceLeDiff, Nat.zero_le, true_and, and_true, if_true, if_false, ne_eq, Int.reduceEq, Int.reduceNeg, not_false_eq_true, not_true_eq_false, ↓reduceIte, Int.reduceLT, Int.reduceLE, and_self, or_true, true_or, or_false, false_or, false_and, and_false, ah_t_w, ah_m_w, ah_n_w, lst1_0, List.tail_cons, w32_i, zbd, lst2_0, mt_1036a hG.1, mt_1083a hG.1, mt_1083b hG.1, mf_62 hG.1, g_1083 hG, g_1083 hG0, e1]
  generalize ah_w h 1036 121 0 = hz at hG0 hl0 hO0
  refine c_378 hG0.1 hl0 (by decide) (fun h1 hl1 hO1 => ?_)
  have hG1 : MG T nw h1 := MG_off hG0 hO1 (fun r i w => WI_f w)
  simp (disch := omega) only [b_377_0, ↓w_iconst, ↓w_sipush, ↓w_aload_n_0, ↓w_istore_n_1, ↓w_idiv, ↓w_irem, ↓w_getfield, ↓w_putfield_0, ↓w_iaload, ↓w_nop, ↓w_invokevirtual_1, stw_0, stw_i, stw_l, stw_r, ofK0, ofK1, ofK2, lst1, lst2, lkill, kont_none, kont_some, Int.reduceToNat, List.length_cons, List.length_nil, Nat.reduceAdd, Nat.reduceLeDiff, Nat.zero_le, true_and, and_true, if_true, if_false, ne_eq, Int.reduceEq, Int.reduceNeg, not_false_eq_true, not_true_eq_false, ↓reduceIte, Int.reduceLT, Int.reduceLE, and_self, or_true, true_or, or_false, false_or, false_and, and_false, ah_t_w, ah_m_w, ah_n_w, lst1_0, List.tail_cons, w32_i, zbd, lst2_0, mt_1036a hG1.1, mt_1083a hG1.1, mt_1083b hG1.1, mf_62 hG1.1, g_1083 hG1, e2]
  refine c_378 hG1.1 hl1 (by simp) (fun h2 hl2 hO2 => ?_)
  have hG2 : MG T nw h2 := MG_off hG1 hO2 (fun r i w => WI_f w)
  simp (disch := omega) only [b_377_0, ↓w_iconst, ↓w_sipush, ↓w_aload_n_0, ↓w_istore_n_1, ↓w_idiv, ↓w_irem, ↓w_getfield, ↓w_putfield_0, ↓w_iaload, ↓w_nop, ↓w_invokevirtual_1, stw_0, stw_i, stw_l, stw_r, ofK0, ofK1, ofK2, lst1, lst2, lkill, kont_none, kont_some, Int.reduceToNat, List.length_cons, List.length_nil, Nat.reduceAdd, Nat.reduceLeDiff, Nat.zero_le, true_and, and_true, if_true, if_false, ne_eq, Int.reduceEq, Int.reduceNeg, not_false_eq_true, not_true_eq_false, ↓reduceIte, Int.reduceLT, Int.reduceLE, and_self, or_true, true_or, or_false, false_or, false_and, and_false, ah_t_w, ah_m_w, ah_n_w, lst1_0, List.tail_cons, w32_i, zbd, lst2_0, mt_1036a hG2.1, mt_1083a hG2.1, mt_1083b hG2.1, mf_62 hG2.1, g_1083 hG2]
  refine c_378 hG2.1 hl2 (by simp) (fun h3 hl3 hO3 => ?_)
  have hG3 : MG T nw h3 := MG_off hG2 hO3 (fun r i w => WI_f w)
  simp (disch := omega) only [b_377_0, ↓w_iconst, ↓w_sipush, ↓w_aload_n_0, ↓w_istore_n_1, ↓w_idiv, ↓w_irem, ↓w_getfield, ↓w_putfield_0, ↓w_iaload, ↓w_nop, ↓w_invokevirtual_1, stw_0, stw_i, stw_l, stw_r, ofK0, ofK1, ofK2, lst1, lst2, lkill, kont_none, kont_some, Int.reduceToNat, List.length_cons, List.length_nil, Nat.reduceAdd, Nat.reduceLeDiff, Nat.zero_le, true_and, and_true, if_true, if_false, ne_eq, Int.reduceEq, Int.reduceNeg, not_false_eq_true, not_true_eq_false, ↓reduceIte, Int.reduceLT, Int.reduceLE, and_self, or_true, true_or, or_false, false_or, false_and, and_false, ah_t_w, ah_m_w, ah_n_w, lst1_0, List.tail_cons, w32_i, zbd, lst2_0]
  refine l_377a hG3 (fun h4 hl4 hO4 => ?_) (2 * T 1072 4).toNat 0 h3 (by omega) hl3 Off_rfl
  have hG4 : MG T nw h4 := MG_off hG3 hO4 (fun r i w => WI_f w)
  simp (disch := omega) only [q_377_91, b_377_91, ↓w_iconst, ↓w_istore_n_1, ↓w_nop, stw_0, stw_i, stw_l, stw_r, ofK0, ofK1, ofK2, lst1, lst2, lkill, kont_none, kont_some, Int.reduceToNat, List.length_cons, List.length_nil, Nat.reduceAdd, Nat.reduceLeDiff, Nat.zero_le, true_and, and_true, if_true, if_false, ne_eq, Int.reduceEq, Int.reduceNeg, not_false_eq_true, not_true_eq_false, ↓reduceIte, Int.reduceLT, Int.reduceLE, and_self, or_true, true_or, or_false, false_or, false_and, and_false, ah_t_w, ah_m_w, ah_n_w, lst1_0, List.tail_cons, w32_i, zbd, lst2_0]
  refine l_377b (pre := [nw 0 / 256, nw 0 % 256, nw 1] ++ zml nw (2 * T 1072 4).toNat) hG4 hF (by simp [zml_len]; omega) (fun h5 tl hl5 hO5 => ?_) (T 1072 5).toNat 0 h4 (by omega) (by simpa [zfl2] using hl4) Off_rfl
  have hG5 : MG T nw h5 := MG_off hG4 hO5 (fun r i w => WI_f w)
  have hl5' : OutL h5 (zim0 T nw) := hl5
  have hlen := zim0_len hG
  have e121 := hl5'.1
  have c79 : ∀ {Q}, wpC (d + 2) 379 [.inr (.inr 1120), .inl ((zim0 T nw).length : Int)] h5 Q ↔ Q (.inl (some (.inl (zck2 (zlf (zim0 T nw)) (zim0 T nw).length 0 59)))) h5 := by
    intro Q
    have := @c_379 (d + 1) h5 Q (zim0 T nw).length 1120 (mt_1120a hG5.1) (fun i a b => by rw [hl5'.2 i a b]; exact zim0_b hG hF _ (zlf_mem a b)) ⟨by omega, by rw [mt_1120b hG5.1]; omega⟩ (by omega)
    rw [zck2_c (g := zlf (zim0 T nw)) _ _ _ (fun i a b => hl5'.2 i a (by omega))] at this
    exact this
  simp (disch := omega) only [q_377_141, b_377_141, ↓w_aload_n_0, ↓w_getfield, ↓w_ireturn0, ↓w_invokevirtual_1, ↓w_invokestatic_2, stw_0, stw_i, stw_l, stw_r, ofK0, ofK1, ofK2, lst1, lst2, lkill, kont_none, kont_some, Int.reduceToNat, List.length_cons, List.length_nil, Nat.reduceAdd, Nat.reduceLeDiff, Nat.zero_le, true_and, and_true, if_true, if_false, ne_eq, Int.reduceEq, Int.reduceNeg, not_false_eq_true, not_true_eq_false, ↓reduceIte, Int.reduceLT, Int.reduceLE, and_self, or_true, true_or, or_false, false_or, false_and, and_false, ah_t_w, ah_m_w, ah_n_w, lst1_0, List.tail_cons, w32_i, zbd, lst2_0, mt_1036a hG5.1, mt_1120a hG5.1, mt_1120b hG5.1, mf_120 hG5.1, e121, c79]
  refine c_378 hG5.1 hl5' (by omega) (fun h6 hl6 hO6 => ?_)
  have hM6 := MI_off hG5.1 hO6 (fun r i w => (WI_f w).1)
  have e6 := hl6.1
  simp (disch := omega) only [b_377_141, ↓w_aload_n_0, ↓w_getfield, ↓w_ireturn0, ↓w_invokevirtual_1, ↓w_invokestatic_2, stw_0, stw_i, stw_l, stw_r, ofK0, ofK1, ofK2, lst1, lst2, lkill, kont_none, kont_some, Int.reduceToNat, List.length_cons, List.length_nil, Nat.reduceAdd, Nat.reduceLeDiff, Nat.zero_le, true_and, and_true, if_true, if_false, ne_eq, Int.reduceEq, Int.reduceNeg, not_false_eq_true, not_true_eq_false, ↓reduceIte, Int.reduceLT, Int.reduceLE, and_self, or_true, true_or, or_false, false_or, false_and, and_false, ah_t_w, ah_m_w, ah_n_w, lst1_0, List.tail_cons, w32_i, zbd, lst2_0, mt_1036a hM6, mt_1120a hM6, mt_1120b hM6, mf_120 hM6, e6]
  exact hQ h6 hl6 (Off_tr hO0 (Off_tr hO1 (Off_tr hO2 (Off_tr hO3 (Off_tr hO4 (Off_tr hO5 hO6))))))
end IMG
