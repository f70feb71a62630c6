/-! ===== X: a move is told (tells) ===== -/
def Wtl (s r i : Int) : Prop := (r = s ∧ i = 2) ∨ (s + 4 ≤ r ∧ r ≤ s + 44)
section Y4
variable {W : Int → Int → Prop} {d : Nat} {h h' h0 : AH} {Q : QQ} {x y z m k s l w a b c v n p r o i f : Int} {S T T' : Int → Int → Int} {t nw nw' : Int → Int} {tl : ALoc}
set_option maxHeartbeats 4000000
theorem zman_c (hN : ∀ i, 2 ≤ i → i < 18 → nw' i = nw i) : ∀ (j : Nat) (i : Int), 0 ≤ i → i + j ≤ 8 → zman nw' x y j i = zman nw x y j i := by
  intro j
  induction j with
  | zero => intro i _ _; rfl
  | succ j ih =>
    intro i i0 i1
    simp only [zman]
    rw [hN (2 + 2 * i) (by omega) (by omega), hN (3 + 2 * i) (by omega) (by omega), ih (i + 1) (by omega) (by omega)]
theorem zat_c (n8 : 0 ≤ T 1072 4 ∧ T 1072 4 ≤ 8) (hN : ∀ i, 2 ≤ i → i < 18 → nw' i = nw i) : zat T nw' x y = zat T nw x y := by
  unfold zat; exact zman_c hN _ _ (by omega) (by omega)
theorem XS_tl (hS : XS T nw s h) (n8 : 0 ≤ T 1072 4 ∧ T 1072 4 ≤ 8) (n6 : 0 ≤ T 1072 5 ∧ T 1072 5 ≤ 6) (hO : Off (Wtl s) h h') (hz : ∀ i, 0 ≤ i → i < 24 → nw' i = nw i) (e2 : ah_m h' s 2 = nw' 24) (hP : RP s h')
    (hr : ∀ k i, 0 ≤ k → k < nw' 24 → 0 ≤ i → i < 5 → ah_m h' (ah_m h' (s + 4) k) i = nw' (25 + 5 * k + i)) : XS T nw' s h' := by
  have hzc : zcn T nw' (zn T) 0 = zcn T nw (zn T) 0 := zcn_c _ _ (fun u a b => by rw [hz _ (by omega) (by unfold zn at b; omega)])
  refine ⟨hS.1, ⟨?_, ?_, e2, ?_⟩, fun m p q => ?_, fun m p q => ?_, fun m p q => ?_, hr, hP⟩
  · rw [hO.2 _ _ (by unfold Wtl; omega), s_0 hS, hz _ (by omega) (by omega)]
  · rw [hO.2 _ _ (by unfold Wtl; omega), s_1 hS, hz _ (by omega) (by omega)]
  · rw [hO.2 _ _ (by unfold Wtl; omega), s_7 hS, hzc]
  · rw [hO.2 _ _ (by unfold Wtl; omega), sp hS p q]; unfold zpl5
    rw [hz _ (by omega) (by omega), hz _ (by omega) (by omega)]
  · rw [hO.2 _ _ (by unfold Wtl; omega), so hS p q]; unfold zon5
    rw [zat_c n8 (fun i a b => hz i (by omega) (by omega))]
  · rw [hO.2 _ _ (by unfold Wtl; omega), sb hS p q, hz _ (by omega) (by omega)]
theorem l_231_66 (hK : XG T h) (hZ : isS s) (hP : RP s h) (n0 : 0 ≤ n) (n1 : n < 40) (e2 : ah_m h s 2 = n) (m0 : 0 ≤ m) (m1 : m < 8) (ep : ah_m h (s + 1) m = 5 * y + x) (hx : 0 ≤ x ∧ x < 5) (hy : 0 ≤ y ∧ y < 5)
    (hQ : ∀ h', Off (fun r i => (r = s ∧ i = 2) ∨ r = ah_m h (s + 4) n) h h' → ah_m h' s 2 = n + 1 → (ah_m h' (ah_m h (s + 4) n) 0 = ah_m h s 0 ∧ ah_m h' (ah_m h (s + 4) n) 1 = m ∧ ah_m h' (ah_m h (s + 4) n) 2 = x ∧ ah_m h' (ah_m h (s + 4) n) 3 = y ∧ ah_m h' (ah_m h (s + 4) n) 4 = if z = -1 then 255 else z) → Q (.inl none) h') :
    wpB d 231 66 (some (.inr (.inr s)) :: some (.inl m) :: some (.inl z) :: tl) [] h Q := by
  have pR := hP.1 n n0 n1
  generalize eR : ah_m h (s + 4) n = R at *
  have tR := sz_r hK hZ pR.1 pR.2
  have f0 : 0 < s := by unfold isS at hZ; omega
  have f1 : ¬ s = R := by omega
  have f2 : ¬ s + 4 = R := by omega
  have f3 : ¬ s + 1 = R := by omega
  have f4 : 0 < R := by omega
  have f5 : ¬ R = s := by omega
  have t3 : (5 * y + x).tmod 5 = x := by rw [tm5 (by omega)]; omega
  have t4 : (5 * y + x).tdiv 5 = y := by rw [td5 (by omega)]; omega
  generalize e0 : ah_m h s 0 = D at *
  have fin : ∀ t', t' = (if z = -1 then 255 else z) → Q (.inl none) (ah_w (ah_w (ah_w (ah_w (ah_w (ah_w h R 0 D) R 1 m) R 2 x) R 3 y) R 4 t') s 2 (n + 1)) := by
    intro t' et
    refine hQ _ (Off_w (Off_w (Off_w (Off_w (Off_w (Off_w Off_rfl (Or.inr rfl)) (Or.inr rfl)) (Or.inr rfl)) (Or.inr rfl)) (Or.inr rfl)) (Or.inl ⟨rfl, rfl⟩)) ?_ ⟨?_, ?_, ?_, ?_, ?_⟩
    all_goals simp only [ah_m_w]
    all_goals simp [f5, et]
  by_cases g : z = -1
  · have fin := fin 255 (by rw [if_pos g])
    simp (disch := omega) only [q_231_66, b_231_66, q_231_140, b_231_140, q_231_153, b_231_153, ↓w_iconst, ↓w_sipush, ↓w_aload_n_0, ↓w_iload_n_1, ↓w_iload_n_2, ↓w_dup_i, ↓w_dup_a, ↓w_iadd, ↓w_idiv, ↓w_irem, ↓w_getfield, ↓w_putfield_0, ↓w_iaload, ↓w_aaload, ↓w_iastore, ↓w_nop, ↓w_goto, ↓w_if_icmp_ne, ↓w_return, stw_0, stw_i, stw_l, stw_r, ofK0, ofK1, ofK2, lst1, lst2, lkill, kont_none, kont_some, Int.reduceToNat, List.length_cons, List.length_nil, Nat.reduceAdd, Nat.reduceLeDiff, Nat.zero_le, true_and, and_true, if_true, if_false, ne_eq, Int.reduceEq, Int.reduceNeg, not_false_eq_true, not_true_eq_false, ↓reduceIte, Int.reduceLT, Int.reduceLE, and_self, or_true, true_or, or_false, false_or, false_and, and_false, ah_t_w, ah_m_w, ah_n_w, lst1_0, List.tail_cons, w32_i, zbd, lst2_0, sz_t hK hZ, sz_3 hK hZ, sz_3a hK hZ, sz_3b hK hZ, sz_6 hK hZ, sz_6a hK hZ, sz_6b hK hZ, e2, eR, tR, f0, f1, f2, f3, f4, e0, ep, t3, t4, g, n0, n1, m0, m1]
    exact fin
  · have fin := fin z (by rw [if_neg g])
    simp (disch := omega) only [q_231_66, b_231_66, q_231_140, b_231_140, q_231_152, b_231_152, q_231_153, b_231_153, ↓w_iconst, ↓w_sipush, ↓w_aload_n_0, ↓w_iload_n_1, ↓w_iload_n_2, ↓w_dup_i, ↓w_dup_a, ↓w_iadd, ↓w_idiv, ↓w_irem, ↓w_getfield, ↓w_putfield_0, ↓w_iaload, ↓w_aaload, ↓w_iastore, ↓w_nop, ↓w_goto, ↓w_if_icmp_ne, ↓w_return, stw_0, stw_i, stw_l, stw_r, ofK0, ofK1, ofK2, lst1, lst2, lkill, kont_none, kont_some, Int.reduceToNat, List.length_cons, List.length_nil, Nat.reduceAdd, Nat.reduceLeDiff, Nat.zero_le, true_and, and_true, if_true, if_false, ne_eq, Int.reduceEq, Int.reduceNeg, not_false_eq_true, not_true_eq_false, ↓reduceIte, Int.reduceLT, Int.reduceLE, and_self, or_true, true_or, or_false, false_or, false_and, and_false, ah_t_w, ah_m_w, ah_n_w, lst1_0, List.tail_cons, w32_i, zbd, lst2_0, sz_t hK hZ, sz_3 hK hZ, sz_3a hK hZ, sz_3b hK hZ, sz_6 hK hZ, sz_6a hK hZ, sz_6b hK hZ, e2, eR, tR, f0, f1, f2, f3, f4, e0, ep, t3, t4, g, n0, n1, m0, m1]
    exact fin
theorem l_231_19 (hK : XG T h) (hZ : isS s) (hP : RP s h) {a1 a2 : Option AV} {a3 : Int} (hQ : ∀ h', Off (fun r i => r = s + 4) h h' → (∀ u, 0 ≤ u → u < 39 → ah_m h' (s + 4) u = ah_m h (s + 4) (u + 1)) → wpB d 231 48 (some (.inr (.inr s)) :: a1 :: a2 :: some (.inr (.inr a3)) :: some (.inl 40) :: tl) [] h' Q) :
    ∀ (j : Nat) (k : Int) h', 1 ≤ k → k + j = 40 → Off (fun r i => r = s + 4) h h' → (∀ u, 0 ≤ u → u < k - 1 → ah_m h' (s + 4) u = ah_m h (s + 4) (u + 1)) → (∀ u, k - 1 ≤ u → ah_m h' (s + 4) u = ah_m h (s + 4) u) → wpB d 231 19 (some (.inr (.inr s)) :: a1 :: a2 :: some (.inr (.inr a3)) :: some (.inl k) :: tl) [] h' Q := by
  intro j
  induction j with
  | zero =>
    intro k h' k0 k1 hO hu hv
    have e : k = 40 := by omega
    subst e
    simp (disch := omega) only [q_231_19, b_231_19, ↓w_iconst, ↓w_bipush, ↓w_aload_n_0, ↓w_iload_4, ↓w_iinc_4, ↓w_isub, ↓w_getfield, ↓w_aaload, ↓w_aastore, ↓w_goto, ↓w_if_icmp_ge, stw_0, stw_i, stw_l, stw_r, ofK0, ofK1, ofK2, lst1, lst2, lkill, kont_none, kont_some, Int.reduceToNat, List.length_cons, List.length_nil, Nat.reduceAdd, Nat.reduceLeDiff, Nat.zero_le, true_and, and_true, if_true, if_false, ne_eq, Int.reduceEq, Int.reduceNeg, not_false_eq_true, not_true_eq_false, ↓reduceIte, Int.reduceLT, Int.reduceLE, and_self, or_true, true_or, or_false, false_or, false_and, and_false, ah_t_w, ah_m_w, ah_n_w, lst1_0, List.tail_cons, w32_i, zbd, lst2_0]
    exact hQ h' hO (fun u u0 u1 => hu u u0 (by omega))
  | succ j ih =>
    intro k h' k0 k1 hO hu hv
    have hlt : ¬ 40 ≤ k := by omega
    have hK' : XG T h' := XG_off hK hO (fun r i w => by unfold isS at hZ; unfold fix BRr isS isV; omega)
    have f0 : 0 < s + 4 := by unfold isS at hZ; omega
    have ek := hv k (by omega)
    have pk := hP.1 k (by omega) (by omega)
    have tk : (ah_t h' (ah_m h' (s + 4) k)).1 = -1 := by rw [ek, sz_r hK' hZ pk.1 pk.2]
    have b1 : 0 ≤ k - 1 := by omega
    have b2 : k - 1 < 40 := by omega
    have b3 : 0 ≤ k := by omega
    have b4 : k < 40 := by omega
    rw [q_231_19]
    simp (disch := omega) only [b_231_19, ↓w_iconst, ↓w_bipush, ↓w_aload_n_0, ↓w_iload_4, ↓w_iinc_4, ↓w_isub, ↓w_getfield, ↓w_aaload, ↓w_aastore, ↓w_goto, ↓w_if_icmp_ge, stw_0, stw_i, stw_l, stw_r, ofK0, ofK1, ofK2, lst1, lst2, lkill, kont_none, kont_some, Int.reduceToNat, List.length_cons, List.length_nil, Nat.reduceAdd, Nat.reduceLeDiff, Nat.zero_le, true_and, and_true, if_true, if_false, ne_eq, Int.reduceEq, Int.reduceNeg, not_false_eq_true, not_true_eq_false, ↓reduceIte, Int.reduceLT, Int.reduceLE, and_self, or_true, true_or, or_false, false_or, false_and, and_false, ah_t_w, ah_m_w, ah_n_w, lst1_0, List.tail_cons, w32_i, zbd, lst2_0, sz_t hK' hZ, sz_6 hK' hZ, sz_6a hK' hZ, sz_6b hK' hZ, hlt, f0, tk, b1, b2, b3, b4, asc, Option.isSome_some]
    refine ih (k + 1) _ (by omega) (by omega) (Off_w hO rfl) (fun u u0 u1 => ?_) (fun u u0 => ?_)
    · rw [ah_m_w]
      by_cases g : u = k - 1
      · rw [if_pos ⟨rfl, g⟩, g, ek]; congr 1; omega
      · rw [if_neg (fun q => g q.2)]; exact hu u u0 (by omega)
    · rw [ah_m_w, if_neg (by omega)]; exact hv u (by omega)
theorem c_231 (hK : XG T h) (hS : XS T nw s h) (hN : NV T nw) (n0 : 0 ≤ nw 24) (n1 : nw 24 ≤ 40) (m0 : 0 ≤ m) (m1 : m < T 1072 4) (hm : nw (2 + 2 * m) ≠ -1)
    (hQ : ∀ h', XG T h' → XS T (zkp nw m (nw (2 + 2 * m)) (nw (3 + 2 * m)) (if z = -1 then 255 else z)) s h' → Off (Wtl s) h h' → Q (.inl none) h') : wpC (d + 1) 231 [.inr (.inr s), .inl m, .inl z] h Q := by
  have n8 := hK.2.2.2.1; have n6 := hK.2.2.2.2.1
  have hC := hK.2.2.2.2.2.1; have hR := hK.2.2.2.2.2.2.1
  have hZ := hS.1
  have hP := hS.2.2.2.2.2.2
  have hcr : (0 ≤ nw (2 + 2 * m) ∧ nw (2 + 2 * m) < T 1074 4) ∧ (0 ≤ nw (3 + 2 * m) ∧ nw (3 + 2 * m) < T 1074 5) := by
    rcases hN.2.1 m m0 m1 with q | q
    · exact absurd q.1 hm
    · exact q
  have ep := sp hS m0 m1
  unfold zpl5 at ep
  rw [if_neg hm] at ep
  have okW : ∀ r i, Wtl s r i → ¬ fix r i ∧ ¬ BRr r ∧ ¬ (r = 1 ∧ i = 0) := fun r i w => by unfold Wtl at w; unfold isS at hZ; unfold fix BRr isS isV; omega
  rw [wpC_B]; refine ⟨⟨Nat.zero_lt_succ _, Nat.le_of_ble_eq_true rfl⟩, ?_⟩; simp only [lent]
  unfold zkp at hQ
  by_cases g : nw 24 = 40
  · rw [if_pos g] at hQ
    have f0 : 0 < s + 4 := by unfold isS at hZ; omega
    have f9 : 0 < s := by unfold isS at hZ; omega
    simp (disch := omega) only [q_231_0, b_231_0, ↓w_iconst, ↓w_bipush, ↓w_aload_n_0, ↓w_istore, ↓w_astore_n_3, ↓w_getfield, ↓w_aaload, ↓w_nop, ↓w_if_icmp_ne, stw_0, stw_i, stw_l, stw_r, ofK0, ofK1, ofK2, lst1, lst2, lkill, kont_none, kont_some, Int.reduceToNat, List.length_cons, List.length_nil, Nat.reduceAdd, Nat.reduceLeDiff, Nat.zero_le, true_and, and_true, if_true, if_false, ne_eq, Int.reduceEq, Int.reduceNeg, not_false_eq_true, not_true_eq_false, ↓reduceIte, Int.reduceLT, Int.reduceLE, and_self, or_true, true_or, or_false, false_or, false_and, and_false, ah_t_w, ah_m_w, ah_n_w, lst1_0, List.tail_cons, w32_i, zbd, lst2_0, s_t hK hS, s_2 hS, s_6 hK hS, s_6a hK hS, s_6b hK hS, g]
    refine l_231_19 hK hZ hP (fun h1 hO1 e1 => ?_) 39 1 h (by omega) (by omega) Off_rfl (fun u u0 u1 => by omega) (fun u _ => rfl)
    have hK1 : XG T h1 := XG_off hK hO1 (fun r i w => by unfold isS at hZ; unfold fix BRr isS isV; omega)
    have hx1 : ∀ r i, r ≠ s + 4 → ah_m h1 r i = ah_m h r i := fun r i q => hO1.2 r i q
    have p0 := hP.1 0 (by omega) (by omega)
    have t0 : (ah_t h1 (ah_m h (s + 4) 0)).1 = -1 := by rw [sz_r hK1 hZ p0.1 p0.2]
    have e2 : ah_m h1 s 2 = 40 := by rw [hx1 _ _ (by omega), s_2 hS]; exact g
    have f1 : ¬ s = s + 4 := by omega
    simp (disch := omega) only [q_231_48, b_231_48, ↓w_iconst, ↓w_bipush, ↓w_aload_n_0, ↓w_aload_n_3, ↓w_dup_i, ↓w_dup_a, ↓w_isub, ↓w_getfield, ↓w_putfield_0, ↓w_aastore, ↓w_nop, stw_0, stw_i, stw_l, stw_r, ofK0, ofK1, ofK2, lst1, lst2, lkill, kont_none, kont_some, Int.reduceToNat, List.length_cons, List.length_nil, Nat.reduceAdd, Nat.reduceLeDiff, Nat.zero_le, true_and, and_true, if_true, if_false, ne_eq, Int.reduceEq, Int.reduceNeg, not_false_eq_true, not_true_eq_false, ↓reduceIte, Int.reduceLT, Int.reduceLE, and_self, or_true, true_or, or_false, false_or, false_and, and_false, ah_t_w, ah_m_w, ah_n_w, lst1_0, List.tail_cons, w32_i, zbd, lst2_0, sz_t hK1 hZ, sz_6 hK1 hZ, sz_6a hK1 hZ, sz_6b hK1 hZ, Int.reduceSub, f0, f1, f9, t0, e2, asc, Option.isSome_some]
    generalize hg : ah_w (ah_w h1 (s + 4) 39 (ah_m h (s + 4) 0)) s 2 39 = g0
    have hO2 : Off (fun r i => (r = s ∧ i = 2) ∨ r = s + 4) h g0 := by
      rw [← hg]; exact Off_w (Off_w (Off_mono (fun r i w => Or.inr w) hO1) (Or.inr rfl)) (Or.inl ⟨rfl, rfl⟩)
    have hK2 : XG T g0 := XG_off hK hO2 (fun r i w => by unfold isS at hZ; unfold fix BRr isS isV; omega)
    have r4 : ∀ u, 0 ≤ u → u < 40 → ah_m g0 (s + 4) u = ah_m h (s + 4) (if u = 39 then 0 else u + 1) := fun u u0 u1 => by
      rw [← hg, ah_m_w, if_neg (by omega), ah_m_w]
      by_cases q : u = 39
      · rw [if_pos ⟨rfl, q⟩, if_pos q]
      · rw [if_neg (fun z => q z.2), if_neg q, e1 u u0 (by omega)]
    have hP2 : RP s g0 := by
      refine ⟨fun k p q => ?_, fun j k a b c d e => ?_⟩
      · rw [r4 k p q]; split
        · exact hP.1 _ (by omega) (by omega)
        · exact hP.1 _ (by omega) (by omega)
      · rw [r4 j a b, r4 k c d]
        exact hP.2 _ _ (by split <;> omega) (by split <;> omega) (by split <;> omega) (by split <;> omega) (by split <;> split <;> omega)
    have x2 : ∀ r i, ¬ ((r = s ∧ i = 2) ∨ r = s + 4) → ah_m g0 r i = ah_m h r i := hO2.2
    refine l_231_66 (n := 39) (x := nw (2 + 2 * m)) (y := nw (3 + 2 * m)) hK2 hZ hP2 (by omega) (by omega) (by rw [← hg, ah_m_w, if_pos ⟨rfl, rfl⟩]) m0 (by omega) (by rw [x2 _ _ (by omega)]; exact ep) (by omega) (by omega) (fun h3 hO3 e3 er => ?_)
    have pR := hP2.1 39 (by omega) (by omega)
    have hO4 : Off (Wtl s) h h3 := Off_tr (Off_mono (fun r i w => by unfold Wtl; omega) hO2) (Off_mono (fun r i w => by unfold Wtl; omega) hO3)
    have r43 : ∀ u, ah_m h3 (s + 4) u = ah_m g0 (s + 4) u := fun u => hO3.2 _ _ (by omega)
    refine hQ h3 (XG_off hK hO4 okW) (XS_tl hS n8 n6 hO4 (fun i i0 i1 => ?_) ?_ ⟨fun k p q => ?_, fun j k a b c d e => ?_⟩ (fun k i p q u v => ?_)) hO4
    · unfold zke zsh
      rw [if_neg (by omega), if_neg (by omega), if_neg (by omega), if_neg (by omega), if_neg (by omega), if_neg (by omega)]
    · rw [e3]; unfold zke zsh
      rw [if_neg (by omega), if_neg (by omega), if_neg (by omega), if_neg (by omega), if_neg (by omega), if_neg (by omega)]; omega
    · rw [r43]; exact hP2.1 k p q
    · rw [r43, r43]; exact hP2.2 j k a b c d e
    · have q40 : k < 40 := by
        unfold zke zsh at q
        rw [if_neg (by omega), if_neg (by omega), if_neg (by omega), if_neg (by omega), if_neg (by omega), if_neg (by omega)] at q; omega
      rw [r43]
      by_cases g2 : k = 39
      · have es : ah_m g0 s 0 = nw 0 := by rw [x2 _ _ (by omega)]; exact s_0 hS
        have ez : zsh nw 0 = nw 0 := by unfold zsh; rw [if_neg (by omega)]
        rw [g2]
        have i5 : i = 0 ∨ i = 1 ∨ i = 2 ∨ i = 3 ∨ i = 4 := by omega
        unfold zke
        rcases i5 with e | e | e | e | e <;> subst e
        · rw [er.1, es, if_neg (by omega), if_neg (by omega), if_neg (by omega), if_neg (by omega), if_pos (by omega), ez]
        · rw [er.2.1, if_neg (by omega), if_neg (by omega), if_neg (by omega), if_pos (by omega)]
        · rw [er.2.2.1, if_neg (by omega), if_neg (by omega), if_pos (by omega)]
        · rw [er.2.2.2.1, if_neg (by omega), if_pos (by omega)]
        · rw [er.2.2.2.2]; exact (if_pos (by omega)).symm
      · have hne := hP2.2 k 39 p q40 (by omega) (by omega) g2
        have pk := hP2.1 k p q40
        rw [hO3.2 _ _ (by omega), x2 _ _ (by omega), r4 k p q40, if_neg g2, hS.2.2.2.2.2.1 (k + 1) i (by omega) (by omega) u v]
        unfold zke zsh
        rw [if_neg (by omega), if_neg (by omega), if_neg (by omega), if_neg (by omega), if_neg (by omega), if_pos (by omega)]
        congr 1; omega
  · rw [if_neg g] at hQ
    simp (disch := omega) only [q_231_0, b_231_0, ↓w_iconst, ↓w_bipush, ↓w_aload_n_0, ↓w_istore, ↓w_astore_n_3, ↓w_getfield, ↓w_aaload, ↓w_nop, ↓w_if_icmp_ne, stw_0, stw_i, stw_l, stw_r, ofK0, ofK1, ofK2, lst1, lst2, lkill, kont_none, kont_some, Int.reduceToNat, List.length_cons, List.length_nil, Nat.reduceAdd, Nat.reduceLeDiff, Nat.zero_le, true_and, and_true, if_true, if_false, ne_eq, Int.reduceEq, Int.reduceNeg, not_false_eq_true, not_true_eq_false, ↓reduceIte, Int.reduceLT, Int.reduceLE, and_self, or_true, true_or, or_false, false_or, false_and, and_false, ah_t_w, ah_m_w, ah_n_w, lst1_0, List.tail_cons, w32_i, zbd, lst2_0, s_t hK hS, s_2 hS, s_6 hK hS, s_6a hK hS, s_6b hK hS, g]
    refine l_231_66 (n := nw 24) (x := nw (2 + 2 * m)) (y := nw (3 + 2 * m)) hK hZ hP n0 (by omega) (s_2 hS) m0 (by omega) ep (by omega) (by omega) (fun h3 hO3 e3 er => ?_)
    have pR := hP.1 (nw 24) n0 (by omega)
    have hO4 : Off (Wtl s) h h3 := Off_mono (fun r i w => by unfold Wtl; omega) hO3
    have r43 : ∀ u, ah_m h3 (s + 4) u = ah_m h (s + 4) u := fun u => hO3.2 _ _ (by omega)
    have z24 : zke (zin nw) (nw 24 + 1) m (nw (2 + 2 * m)) (nw (3 + 2 * m)) (if z = -1 then 255 else z) 24 = nw 24 + 1 := by
      unfold zke zin
      rw [if_neg (by omega), if_neg (by omega), if_neg (by omega), if_neg (by omega), if_neg (by omega), if_pos (by omega)]
    refine hQ h3 (XG_off hK hO4 okW) (XS_tl hS n8 n6 hO4 (fun i i0 i1 => ?_) ?_ ⟨fun k p q => ?_, fun j k a b c d e => ?_⟩ (fun k i p q u v => ?_)) hO4
    · unfold zke zin
      rw [if_neg (by omega), if_neg (by omega), if_neg (by omega), if_neg (by omega), if_neg (by omega), if_neg (by omega)]
    · rw [e3, z24]
    · rw [r43]; exact hP.1 k p q
    · rw [r43, r43]; exact hP.2 j k a b c d e
    · rw [z24] at q
      rw [r43]
      by_cases g2 : k = nw 24
      · have ez : zin nw 0 = nw 0 := by unfold zin; rw [if_neg (by omega)]
        rw [g2]
        have i5 : i = 0 ∨ i = 1 ∨ i = 2 ∨ i = 3 ∨ i = 4 := by omega
        unfold zke
        rcases i5 with e | e | e | e | e <;> subst e
        · rw [er.1, s_0 hS, if_neg (by omega), if_neg (by omega), if_neg (by omega), if_neg (by omega), if_pos (by omega), ez]
        · rw [er.2.1, if_neg (by omega), if_neg (by omega), if_neg (by omega), if_pos (by omega)]
        · rw [er.2.2.1, if_neg (by omega), if_neg (by omega), if_pos (by omega)]
        · rw [er.2.2.2.1, if_neg (by omega), if_pos (by omega)]
        · rw [er.2.2.2.2]; exact (if_pos (by omega)).symm
      · have hne := hP.2 k (nw 24) p (by omega) n0 (by omega) g2
        have pk := hP.1 k p (by omega)
        rw [hO3.2 _ _ (by omega), hS.2.2.2.2.2.1 k i p (by omega) u v]
        unfold zke zin
        rw [if_neg (by omega), if_neg (by omega), if_neg (by omega), if_neg (by omega), if_neg (by omega), if_neg (by omega)]
end Y4
