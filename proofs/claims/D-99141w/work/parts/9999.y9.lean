/-! ===== X: who stands where; a game begins ===== -/
def Wsd (s r i : Int) : Prop := (r = s ∧ i = 7) ∨ r = s + 2
section Y9
variable {W : Int → Int → Prop} {d : Nat} {h h' h1 h0 : AH} {Q : QQ} {x y z m k s l w a b v n p r o i f : Int} {S T T' : Int → Int → Int} {t nw nw' pt of : Int → Int} {tl : ALoc} {c : Int × Int × Int}
set_option maxHeartbeats 4000000
theorem Wsd_ok (hZ : isS s) : ∀ r i, Wsd s r i → ¬ fix r i ∧ ¬ BRr r ∧ ¬ (r = 1 ∧ i = 0) := by
  intro r i w
  unfold Wsd at w; unfold isS at hZ; unfold fix BRr isS isV
  omega
theorem l_212_7 (hK : XG T h) (hZ : isS s) (hQ : ∀ h', Off (fun r i => r = s + 2) h h' → (∀ p, 0 ≤ p → p < 25 → ah_m h' (s + 2) p = -1) → wpB d 212 26 (some (.inr (.inr s)) :: some (.inl 25) :: tl) [] h' Q) :
    ∀ (j : Nat) (p : Int) h', 0 ≤ p → p + j = 25 → Off (fun r i => r = s + 2) h h' → (∀ u, 0 ≤ u → u < p → ah_m h' (s + 2) u = -1) → wpB d 212 7 (some (.inr (.inr s)) :: some (.inl p) :: tl) [] h' Q := by
  intro j
  induction j with
  | zero =>
    intro p h' p0 p1 hO hu
    have e : p = 25 := by omega
    subst e
    simp (disch := omega) only [q_212_7, b_212_7, ↓w_iconst, ↓w_bipush, ↓w_aload_n_0, ↓w_iload_n_1, ↓w_iinc_1, ↓w_getfield, ↓w_iastore, ↓w_goto, ↓w_if_icmp_ge, stw_0, stw_i, stw_l, stw_r, ofK0, ofK1, ofK2, lst1, lst2, lkill, kont_none, kont_some, Int.reduceToNat, List.length_cons, List.length_nil, Nat.reduceAdd, Nat.reduceLeDiff, Nat.zero_le, true_and, and_true, if_true, if_false, ne_eq, Int.reduceEq, Int.reduceNeg, not_false_eq_true, not_true_eq_false, ↓reduceIte, Int.reduceLT, Int.reduceLE, and_self, or_true, true_or, or_false, false_or, false_and, and_false, ah_t_w, ah_m_w, ah_n_w, lst1_0, List.tail_cons, w32_i, zbd, lst2_0]
    exact hQ h' hO hu
  | succ j ih =>
    intro p h' p0 p1 hO hu
    have hlt : ¬ 25 ≤ p := by omega
    have hlt' : p < 25 := by omega
    have hK' : XG T h' := XG_off hK hO (fun r i w => by unfold isS at hZ; unfold fix BRr isS isV; omega)
    have f1 : 0 < s + 2 := by unfold isS at hZ; omega
    rw [q_212_7]
    simp (disch := omega) only [b_212_7, ↓w_iconst, ↓w_bipush, ↓w_aload_n_0, ↓w_iload_n_1, ↓w_iinc_1, ↓w_getfield, ↓w_iastore, ↓w_goto, ↓w_if_icmp_ge, stw_0, stw_i, stw_l, stw_r, ofK0, ofK1, ofK2, lst1, lst2, lkill, kont_none, kont_some, Int.reduceToNat, List.length_cons, List.length_nil, Nat.reduceAdd, Nat.reduceLeDiff, Nat.zero_le, true_and, and_true, if_true, if_false, ne_eq, Int.reduceEq, Int.reduceNeg, not_false_eq_true, not_true_eq_false, ↓reduceIte, Int.reduceLT, Int.reduceLE, and_self, or_true, true_or, or_false, false_or, false_and, and_false, ah_t_w, ah_m_w, ah_n_w, lst1_0, List.tail_cons, w32_i, zbd, lst2_0, sz_t hK' hZ, sz_4 hK' hZ, sz_4a hK' hZ, sz_4b hK' hZ, hlt, hlt', f1, p0]
    refine ih (p + 1) _ (by omega) (by omega) (Off_w hO rfl) (fun u u0 u1 => ?_)
    rw [ah_m_w]
    by_cases g : u = p
    · rw [if_pos ⟨rfl, g⟩]
    · rw [if_neg (fun q => g q.2)]; exact hu u u0 (by omega)
theorem zpl5_b (hN : NV T nw) (hC : T 1074 4 ≤ 5) (hR : T 1074 5 ≤ 5) (m0 : 0 ≤ m) (m1 : m < T 1072 4) : (zpl5 nw m = -1 ∧ nw (2 + 2 * m) = -1) ∨ ((0 ≤ zpl5 nw m ∧ zpl5 nw m < 25) ∧ zpl5 nw m % 5 = nw (2 + 2 * m) ∧ zpl5 nw m / 5 = nw (3 + 2 * m) ∧ nw (2 + 2 * m) ≠ -1) := by
  unfold zpl5
  by_cases g : nw (2 + 2 * m) = -1
  · rw [if_pos g]; exact Or.inl ⟨rfl, g⟩
  · rw [if_neg g]
    rcases hN.2.1 m m0 m1 with q | q
    · exact absurd q.1 g
    · right; omega
theorem l_212_28 (hK : XG T h) (hZ : isS s) (hX : NX T nw) (hp : ∀ m, 0 ≤ m → m < T 1072 4 → ah_m h (s + 1) m = zpl5 nw m)
    (hQ : ∀ h', Off (Wsd s) h h' → ah_m h' s 7 = zcn T nw (zn T) 0 → (∀ p, 0 ≤ p → p < 25 → ah_m h' (s + 2) p = zon5 T nw p) → Q (.inl none) h') :
    ∀ (j : Nat) (m a : Int) tl h', 0 ≤ m → m + j = T 1072 4 → Off (Wsd s) h h' → (0 ≤ a ∧ a ≤ m) → ah_m h' s 7 = a → a + zcn T nw j m = zcn T nw (zn T) 0 → (∀ u, 0 ≤ u → u < m → zpl5 nw u ≠ -1 → ah_m h' (s + 2) (zpl5 nw u) = u) → (∀ p, 0 ≤ p → p < 25 → (∀ u, 0 ≤ u → u < m → zpl5 nw u ≠ p) → ah_m h' (s + 2) p = -1) → wpB (d + 5) 212 28 (some (.inr (.inr s)) :: some (.inl m) :: tl) [] h' Q := by
  have hN := NX_N hX
  have n8 := hK.2.2.2.1
  have hC := hK.2.2.2.2.2.1; have hR := hK.2.2.2.2.2.2.1
  have s25 : 25 ≤ s := by unfold isS at hZ; omega
  intro j
  induction j with
  | zero =>
    intro m a tl h' m0 m1 hO ha e7 ec hu hv
    have hK' := XG_off hK hO (Wsd_ok hZ)
    have hlt : ¬ m < T 1072 4 := by omega
    simp (disch := omega) only [q_212_28, b_212_28, q_212_94, b_212_94, ↓w_iconst, ↓w_aload_n_0, ↓w_iload_n_1, ↓w_getfield, ↓w_iaload, ↓w_iastore, ↓w_goto, ↓w_if_icmp_eq, ↓w_if_icmp_ge, ↓w_return, ↓w_invokevirtual_0, stw_0, stw_i, stw_l, stw_r, ofK0, ofK1, ofK2, lst1, lst2, lkill, kont_none, kont_some, Int.reduceToNat, List.length_cons, List.length_nil, Nat.reduceAdd, Nat.reduceLeDiff, Nat.zero_le, true_and, and_true, if_true, if_false, ne_eq, Int.reduceEq, Int.reduceNeg, not_false_eq_true, not_true_eq_false, ↓reduceIte, Int.reduceLT, Int.reduceLE, and_self, or_true, true_or, or_false, false_or, false_and, and_false, ah_t_w, ah_m_w, ah_n_w, lst1_0, List.tail_cons, w32_i, zbd, lst2_0, xt_1a hK', sz_t hK' hZ, sz_3 hK' hZ, sz_3a hK' hZ, sz_3b hK' hZ, sz_4 hK' hZ, sz_4a hK' hZ, sz_4b hK' hZ, sz_11 hK' hZ, c_81 hK', hlt]
    simp only [zcn] at ec
    refine hQ h' hO (by omega) (fun p p0 p1 => ?_)
    obtain ⟨hh, hG⟩ := id hX
    have hb := @zat_b hh (p % 5) (p / 5) T nw hG
    unfold zon5
    by_cases g : zat T nw (p % 5) (p / 5) = -1
    · rw [g]
      refine hv p p0 p1 (fun u u0 u1 e => ?_)
      have hpb := zpl5_b hN hC.2 hR.2 u0 (by omega)
      refine zat_no hG g u0 (by omega) ?_
      rw [e] at hpb
      omega
    · have ht := zat_at g
      have hpb := zpl5_b hN hC.2 hR.2 (m := zat T nw (p % 5) (p / 5)) (by omega) (by omega)
      have e : zpl5 nw (zat T nw (p % 5) (p / 5)) = p := by omega
      have := hu (zat T nw (p % 5) (p / 5)) (by omega) (by omega) (by omega)
      rw [e] at this; exact this
  | succ j ih =>
    intro m a tl h' m0 m1 hO ha e7 ec hu hv
    have hK' := XG_off hK hO (Wsd_ok hZ)
    have hlt : m < T 1072 4 := by omega
    have m8 : m < 8 := by omega
    have ep : ah_m h' (s + 1) m = zpl5 nw m := by rw [hO.2 _ _ (by unfold Wsd; omega)]; exact hp m m0 hlt
    have hpb := zpl5_b hN hC.2 hR.2 m0 hlt
    have f1 : 0 < s + 2 := by omega
    have f2 : 0 < s := by omega
    rw [q_212_28]
    simp only [zcn] at ec
    rcases hpb with g | g
    · have hv' : ∀ p, 0 ≤ p → p < 25 → (∀ u, 0 ≤ u → u < m + 1 → zpl5 nw u ≠ p) → ah_m h' (s + 2) p = -1 := fun p p0 p1 q => hv p p0 p1 (fun u u0 u1 => q u u0 (by omega))
      have hu' : ∀ u, 0 ≤ u → u < m + 1 → zpl5 nw u ≠ -1 → ah_m h' (s + 2) (zpl5 nw u) = u := fun u u0 u1 q => by
        have hne : u ≠ m := fun e => q (by rw [e]; exact g.1)
        exact hu u u0 (by omega) q
      have g1 := g.1
      by_cases g2 : zcw T m = 1
      · rw [if_pos ⟨g.2, g2⟩] at ec
        simp (disch := omega) only [b_212_28, q_212_64, b_212_64, q_212_88, b_212_88, ↓w_iconst, ↓w_aload_n_0, ↓w_iload_n_1, ↓w_iinc_1, ↓w_dup_i, ↓w_dup_a, ↓w_iadd, ↓w_getfield, ↓w_putfield_0, ↓w_iaload, ↓w_iastore, ↓w_nop, ↓w_goto, ↓w_ifCond_eq, ↓w_if_icmp_eq, ↓w_if_icmp_ge, ↓w_invokevirtual_0, ↓w_invokevirtual_1, stw_0, stw_i, stw_l, stw_r, ofK0, ofK1, ofK2, lst1, lst2, lkill, kont_none, kont_some, Int.reduceToNat, List.length_cons, List.length_nil, Nat.reduceAdd, Nat.reduceLeDiff, Nat.zero_le, true_and, and_true, if_true, if_false, ne_eq, Int.reduceEq, Int.reduceNeg, not_false_eq_true, not_true_eq_false, ↓reduceIte, Int.reduceLT, Int.reduceLE, and_self, or_true, true_or, or_false, false_or, false_and, and_false, ah_t_w, ah_m_w, ah_n_w, lst1_0, List.tail_cons, w32_i, zbd, lst2_0, xt_1a hK', sz_t hK' hZ, sz_3 hK' hZ, sz_3a hK' hZ, sz_3b hK' hZ, sz_4 hK' hZ, sz_4a hK' hZ, sz_4b hK' hZ, sz_11 hK' hZ, c_81 hK', hlt, ep, g1, m0, m8, c_82 hK' m0 hlt, km_t hK' m0 hlt, km_4 hK' m0 hlt, g2, f2, e7]
        refine ih (m + 1) (a + 1) _ _ (by omega) (by omega) (Off_w hO (Or.inl ⟨rfl, rfl⟩)) (by omega) (by rw [ah_m_w, if_pos ⟨rfl, rfl⟩]) (by omega) (fun u u0 u1 q => ?_) (fun p p0 p1 q => ?_)
        · rw [ah_m_w, if_neg (by omega)]; exact hu' u u0 u1 q
        · rw [ah_m_w, if_neg (by omega)]; exact hv' p p0 p1 q
      · rw [if_neg (fun q => g2 q.2)] at ec
        have hb := (hK.2.2.2.2.2.2.2.2.1 _ (km_b hK m0 hlt).1 (by have := (km_b hK m0 hlt).2; have := hK.2.2.1; omega)).2.2.2
        have g3 : zcw T m = 0 := by unfold zcw; unfold zcw at g2; omega
        simp (disch := omega) only [b_212_28, q_212_64, b_212_64, q_212_88, b_212_88, ↓w_iconst, ↓w_aload_n_0, ↓w_iload_n_1, ↓w_iinc_1, ↓w_dup_i, ↓w_dup_a, ↓w_iadd, ↓w_getfield, ↓w_putfield_0, ↓w_iaload, ↓w_iastore, ↓w_nop, ↓w_goto, ↓w_ifCond_eq, ↓w_if_icmp_eq, ↓w_if_icmp_ge, ↓w_invokevirtual_0, ↓w_invokevirtual_1, stw_0, stw_i, stw_l, stw_r, ofK0, ofK1, ofK2, lst1, lst2, lkill, kont_none, kont_some, Int.reduceToNat, List.length_cons, List.length_nil, Nat.reduceAdd, Nat.reduceLeDiff, Nat.zero_le, true_and, and_true, if_true, if_false, ne_eq, Int.reduceEq, Int.reduceNeg, not_false_eq_true, not_true_eq_false, ↓reduceIte, Int.reduceLT, Int.reduceLE, and_self, or_true, true_or, or_false, false_or, false_and, and_false, ah_t_w, ah_m_w, ah_n_w, lst1_0, List.tail_cons, w32_i, zbd, lst2_0, xt_1a hK', sz_t hK' hZ, sz_3 hK' hZ, sz_3a hK' hZ, sz_3b hK' hZ, sz_4 hK' hZ, sz_4a hK' hZ, sz_4b hK' hZ, sz_11 hK' hZ, c_81 hK', hlt, ep, g1, m0, m8, c_82 hK' m0 hlt, km_t hK' m0 hlt, km_4 hK' m0 hlt, g3]
        exact ih (m + 1) a _ _ (by omega) (by omega) hO (by omega) e7 (by omega) hu' hv'
    · rw [if_neg (fun q => g.2.2.2 q.1)] at ec
      have g1 : ¬ zpl5 nw m = -1 := by omega
      have b0 := g.1.1
      have b1 := g.1.2
      simp (disch := omega) only [b_212_28, q_212_88, b_212_88, ↓w_iconst, ↓w_aload_n_0, ↓w_iload_n_1, ↓w_iinc_1, ↓w_getfield, ↓w_iaload, ↓w_iastore, ↓w_goto, ↓w_if_icmp_eq, ↓w_if_icmp_ge, ↓w_invokevirtual_0, stw_0, stw_i, stw_l, stw_r, ofK0, ofK1, ofK2, lst1, lst2, lkill, kont_none, kont_some, Int.reduceToNat, List.length_cons, List.length_nil, Nat.reduceAdd, Nat.reduceLeDiff, Nat.zero_le, true_and, and_true, if_true, if_false, ne_eq, Int.reduceEq, Int.reduceNeg, not_false_eq_true, not_true_eq_false, ↓reduceIte, Int.reduceLT, Int.reduceLE, and_self, or_true, true_or, or_false, false_or, false_and, and_false, ah_t_w, ah_m_w, ah_n_w, lst1_0, List.tail_cons, w32_i, zbd, lst2_0, xt_1a hK', sz_t hK' hZ, sz_3 hK' hZ, sz_3a hK' hZ, sz_3b hK' hZ, sz_4 hK' hZ, sz_4a hK' hZ, sz_4b hK' hZ, sz_11 hK' hZ, c_81 hK', hlt, ep, g1, m0, m8, f1, b0, b1]
      have dis : ∀ u, 0 ≤ u → u < m → zpl5 nw u ≠ zpl5 nw m := fun u u0 u1 e => by
        have hub := zpl5_b hN hC.2 hR.2 u0 (by omega)
        have := hN.2.2.1 m u m0 hlt u0 (by omega) (by omega) g.2.2.2
        refine this ⟨?_, ?_⟩ <;> omega
      refine ih (m + 1) a _ _ (by omega) (by omega) (Off_w hO (Or.inr rfl)) (by omega) (by rw [ah_m_w, if_neg (by omega)]; exact e7) (by omega) (fun u u0 u1 q => ?_) (fun p p0 p1 q => ?_)
      · rw [ah_m_w]
        by_cases gu : u = m
        · rw [gu, if_pos ⟨rfl, rfl⟩]
        · rw [if_neg (fun z => dis u u0 (by omega) z.2)]; exact hu u u0 (by omega) q
      · rw [ah_m_w, if_neg (fun z => q m m0 (by omega) z.2.symm)]
        exact hv p p0 p1 (fun u u0 u1 => q u u0 (by omega))
theorem c_212 (hK : XG T h) (hZ : isS s) (hX : NX T nw) (hp : ∀ m, 0 ≤ m → m < T 1072 4 → ah_m h (s + 1) m = zpl5 nw m)
    (hQ : ∀ h', XG T h' → Off (Wsd s) h h' → ah_m h' s 7 = zcn T nw (zn T) 0 → (∀ p, 0 ≤ p → p < 25 → ah_m h' (s + 2) p = zon5 T nw p) → Q (.inl none) h') : wpC (d + 6) 212 [.inr (.inr s)] h Q := by
  have n8 := hK.2.2.2.1
  have s25 : 25 ≤ s := by unfold isS at hZ; omega
  have s0 : 0 < s := by omega
  rw [wpC_B]; refine ⟨⟨Nat.zero_lt_succ _, Nat.le_of_ble_eq_true rfl⟩, ?_⟩; simp only [lent]
  simp (disch := omega) only [q_212_0, b_212_0, ↓w_iconst, ↓w_aload_n_0, ↓w_istore_n_1, ↓w_putfield_0, ↓w_nop, stw_0, stw_i, stw_l, stw_r, ofK0, ofK1, ofK2, lst1, lst2, lkill, kont_none, kont_some, Int.reduceToNat, List.length_cons, List.length_nil, Nat.reduceAdd, Nat.reduceLeDiff, Nat.zero_le, true_and, and_true, if_true, if_false, ne_eq, Int.reduceEq, Int.reduceNeg, not_false_eq_true, not_true_eq_false, ↓reduceIte, Int.reduceLT, Int.reduceLE, and_self, or_true, true_or, or_false, false_or, false_and, and_false, ah_t_w, ah_m_w, ah_n_w, lst1_0, List.tail_cons, w32_i, zbd, lst2_0, sz_t hK hZ, s0]
  have hO0 : Off (Wsd s) h (ah_w h s 7 0) := Off_w Off_rfl (Or.inl ⟨rfl, rfl⟩)
  have hK0 := XG_off hK hO0 (Wsd_ok hZ)
  refine l_212_7 hK0 hZ (fun h1 hO1 e1 => ?_) 25 0 _ (by omega) (by omega) Off_rfl (fun u u0 u1 => by omega)
  have hO1' : Off (Wsd s) h h1 := Off_tr hO0 (Off_mono (fun r i w => Or.inr w) hO1)
  simp (disch := omega) only [q_212_26, b_212_26, ↓w_iconst, ↓w_istore_n_1, ↓w_nop, stw_0, stw_i, stw_l, stw_r, ofK0, ofK1, ofK2, lst1, lst2, lkill, kont_none, kont_some, Int.reduceToNat, List.length_cons, List.length_nil, Nat.reduceAdd, Nat.reduceLeDiff, Nat.zero_le, true_and, and_true, if_true, if_false, ne_eq, Int.reduceEq, Int.reduceNeg, not_false_eq_true, not_true_eq_false, ↓reduceIte, Int.reduceLT, Int.reduceLE, and_self, or_true, true_or, or_false, false_or, false_and, and_false, ah_t_w, ah_m_w, ah_n_w, lst1_0, List.tail_cons, w32_i, zbd, lst2_0]
  exact l_212_28 hK hZ hX hp (fun h2 hO2 e7 eo => hQ h2 (XG_off hK hO2 (Wsd_ok hZ)) hO2 e7 eo) (zn T) 0 0 _ h1 (by omega) (by unfold zn; omega) hO1' (by omega) (by rw [hO1.2 _ _ (by omega), ah_m_w, if_pos ⟨rfl, rfl⟩]) (by omega) (fun u u0 u1 => by omega) (fun p p0 p1 _ => e1 p p0 p1)
/-! begins -/
theorem l_213_17 (hK : XG T h) (hZ : isS s) {G : Int → Int} (hG : ∀ m, 0 ≤ m → m < T 1072 4 → (0 ≤ ah_m h (xma h m) 4 ∧ ah_m h (xma h m) 4 < 5) ∧ (0 ≤ ah_m h (xma h m) 3 ∧ ah_m h (xma h m) 3 < 5) ∧ 5 * ah_m h (xma h m) 4 + ah_m h (xma h m) 3 = G m)
    (hQ : ∀ h', Off (fun r i => r = s + 1) h h' → (∀ m, 0 ≤ m → m < T 1072 4 → ah_m h' (s + 1) m = G m) → ∀ m, wpB (d + 4) 213 65 (some (.inr (.inr s)) :: some (.inl m) :: tl) [] h' Q) :
    ∀ (j : Nat) (m : Int) h', 0 ≤ m → m + j = T 1072 4 → Off (fun r i => r = s + 1) h h' → (∀ u, 0 ≤ u → u < m → ah_m h' (s + 1) u = G u) → wpB (d + 4) 213 17 (some (.inr (.inr s)) :: some (.inl m) :: tl) [] h' Q := by
  have n8 := hK.2.2.2.1
  intro j
  induction j with
  | zero =>
    intro m h' m0 m1 hO hu
    have hK' : XG T h' := XG_off hK hO (fun r i w => by unfold isS at hZ; unfold fix BRr isS isV; omega)
    have hlt : ¬ m < T 1072 4 := by omega
    simp (disch := omega) only [q_213_17, b_213_17, ↓w_iconst, ↓w_aload_n_0, ↓w_iload_n_1, ↓w_iinc_1, ↓w_iadd, ↓w_imul, ↓w_getfield, ↓w_iastore, ↓w_goto, ↓w_if_icmp_ge, ↓w_invokevirtual_0, ↓w_invokevirtual_1, stw_0, stw_i, stw_l, stw_r, ofK0, ofK1, ofK2, lst1, lst2, lkill, kont_none, kont_some, Int.reduceToNat, List.length_cons, List.length_nil, Nat.reduceAdd, Nat.reduceLeDiff, Nat.zero_le, true_and, and_true, if_true, if_false, ne_eq, Int.reduceEq, Int.reduceNeg, not_false_eq_true, not_true_eq_false, ↓reduceIte, Int.reduceLT, Int.reduceLE, and_self, or_true, true_or, or_false, false_or, false_and, and_false, ah_t_w, ah_m_w, ah_n_w, lst1_0, List.tail_cons, w32_i, zbd, lst2_0, xt_1a hK', sz_t hK' hZ, sz_3 hK' hZ, sz_3a hK' hZ, sz_3b hK' hZ, sz_11 hK' hZ, c_81 hK', hlt]
    exact hQ h' hO (fun u u0 u1 => hu u u0 (by omega)) m
  | succ j ih =>
    intro m h' m0 m1 hO hu
    have okW : ∀ r i, r = s + 1 → ¬ fix r i ∧ ¬ BRr r ∧ ¬ (r = 1 ∧ i = 0) := fun r i w => by unfold isS at hZ; unfold fix BRr isS isV; omega
    have hK' : XG T h' := XG_off hK hO okW
    have hlt : m < T 1072 4 := by omega
    have m8 : m < 8 := by omega
    have f1 : 0 < s + 1 := by unfold isS at hZ; omega
    have exm : xma h' m = xma h m := (XB_off hK.2.1 hO (fun r i w => (okW r i w).2)).2.2.2.2.1 m m0 hlt
    have hbr : BRr (xma h m) := ((xl_7 hK).2.2 m m0 hlt).1
    have e4 : ah_m h' (xma h' m) 4 = ah_m h (xma h m) 4 := by rw [exm]; exact hO.2 _ _ (fun w => (okW _ 0 w).2.1 hbr)
    have e3 : ah_m h' (xma h' m) 3 = ah_m h (xma h m) 3 := by rw [exm]; exact hO.2 _ _ (fun w => (okW _ 0 w).2.1 hbr)
    have g := hG m m0 hlt
    rw [q_213_17]
    simp (disch := omega) only [b_213_17, ↓w_iconst, ↓w_aload_n_0, ↓w_iload_n_1, ↓w_iinc_1, ↓w_iadd, ↓w_imul, ↓w_getfield, ↓w_iastore, ↓w_goto, ↓w_if_icmp_ge, ↓w_invokevirtual_0, ↓w_invokevirtual_1, stw_0, stw_i, stw_l, stw_r, ofK0, ofK1, ofK2, lst1, lst2, lkill, kont_none, kont_some, Int.reduceToNat, List.length_cons, List.length_nil, Nat.reduceAdd, Nat.reduceLeDiff, Nat.zero_le, true_and, and_true, if_true, if_false, ne_eq, Int.reduceEq, Int.reduceNeg, not_false_eq_true, not_true_eq_false, ↓reduceIte, Int.reduceLT, Int.reduceLE, and_self, or_true, true_or, or_false, false_or, false_and, and_false, ah_t_w, ah_m_w, ah_n_w, lst1_0, List.tail_cons, w32_i, zbd, lst2_0, xt_1a hK', sz_t hK' hZ, sz_3 hK' hZ, sz_3a hK' hZ, sz_3b hK' hZ, sz_11 hK' hZ, c_81 hK', hlt, c_83 hK' m0 hlt, ma_t hK' m0 hlt, e4, e3, f1, m0, m8]
    refine ih (m + 1) _ (by omega) (by omega) (Off_w hO rfl) (fun u u0 u1 => ?_)
    rw [ah_m_w]
    by_cases q : u = m
    · rw [if_pos ⟨rfl, q⟩, q]; exact g.2.2
    · rw [if_neg (fun z => q z.2)]; exact hu u u0 (by omega)
theorem l_213_67 (hK : XG T h) (hZ : isS s) {G : Int → Int} (hG : ∀ f, 0 ≤ f → f < T 1072 5 → ah_m h (xfi h f) 3 = G f)
    (hQ : ∀ h', Off (fun r i => r = s + 3) h h' → (∀ m, 0 ≤ m → m < T 1072 5 → ah_m h' (s + 3) m = G m) → ∀ m, wpB (d + 4) 213 112 (some (.inr (.inr s)) :: some (.inl m) :: tl) [] h' Q) :
    ∀ (j : Nat) (m : Int) h', 0 ≤ m → m + j = T 1072 5 → Off (fun r i => r = s + 3) h h' → (∀ u, 0 ≤ u → u < m → ah_m h' (s + 3) u = G u) → wpB (d + 4) 213 67 (some (.inr (.inr s)) :: some (.inl m) :: tl) [] h' Q := by
  have n6 := hK.2.2.2.2.1
  intro j
  induction j with
  | zero =>
    intro m h' m0 m1 hO hu
    have hK' : XG T h' := XG_off hK hO (fun r i w => by unfold isS at hZ; unfold fix BRr isS isV; omega)
    have hlt : ¬ m < T 1072 5 := by omega
    simp (disch := omega) only [q_213_67, b_213_67, ↓w_aload_n_0, ↓w_iload_n_1, ↓w_iinc_1, ↓w_getfield, ↓w_iastore, ↓w_checkcast, ↓w_goto, ↓w_if_icmp_ge, ↓w_invokevirtual_0, ↓w_invokeinterface_1, stw_0, stw_i, stw_l, stw_r, ofK0, ofK1, ofK2, lst1, lst2, lkill, kont_none, kont_some, Int.reduceToNat, List.length_cons, List.length_nil, Nat.reduceAdd, Nat.reduceLeDiff, Nat.zero_le, true_and, and_true, if_true, if_false, ne_eq, Int.reduceEq, Int.reduceNeg, not_false_eq_true, not_true_eq_false, ↓reduceIte, Int.reduceLT, Int.reduceLE, and_self, or_true, true_or, or_false, false_or, false_and, and_false, ah_t_w, ah_m_w, ah_n_w, lst1_0, List.tail_cons, w32_i, zbd, lst2_0, xt_1a hK', x_0, xb_t hK', xl_8t hK', sz_t hK' hZ, sz_5 hK' hZ, sz_5a hK' hZ, sz_5b hK' hZ, sz_11 hK' hZ, c_95 hK', hlt]
    exact hQ h' hO (fun u u0 u1 => hu u u0 (by omega)) m
  | succ j ih =>
    intro m h' m0 m1 hO hu
    have okW : ∀ r i, r = s + 3 → ¬ fix r i ∧ ¬ BRr r ∧ ¬ (r = 1 ∧ i = 0) := fun r i w => by unfold isS at hZ; unfold fix BRr isS isV; omega
    have hK' : XG T h' := XG_off hK hO okW
    have hlt : m < T 1072 5 := by omega
    have m8 : m < 6 := by omega
    have f1 : 0 < s + 3 := by unfold isS at hZ; omega
    have exm : xfi h' m = xfi h m := (XB_off hK.2.1 hO (fun r i w => (okW r i w).2)).2.2.2.2.2 m m0 hlt
    have hbr : BRr (xfi h m) := ((xl_8 hK).2.2 m m0 hlt).1
    have e3 : ah_m h' (xfi h' m) 3 = G m := by rw [exm, hO.2 _ _ (fun w => (okW _ 0 w).2.1 hbr)]; exact hG m m0 hlt
    have xe : xel h' (ah_m h' (xb h') 8) m = xfi h' m := rfl
    rw [q_213_67]
    simp (disch := omega) only [b_213_67, ↓w_aload_n_0, ↓w_iload_n_1, ↓w_iinc_1, ↓w_getfield, ↓w_iastore, ↓w_checkcast, ↓w_goto, ↓w_if_icmp_ge, ↓w_invokevirtual_0, ↓w_invokeinterface_1, stw_0, stw_i, stw_l, stw_r, ofK0, ofK1, ofK2, lst1, lst2, lkill, kont_none, kont_some, Int.reduceToNat, List.length_cons, List.length_nil, Nat.reduceAdd, Nat.reduceLeDiff, Nat.zero_le, true_and, and_true, if_true, if_false, ne_eq, Int.reduceEq, Int.reduceNeg, not_false_eq_true, not_true_eq_false, ↓reduceIte, Int.reduceLT, Int.reduceLE, and_self, or_true, true_or, or_false, false_or, false_and, and_false, ah_t_w, ah_m_w, ah_n_w, lst1_0, List.tail_cons, w32_i, zbd, lst2_0, xt_1a hK', x_0, xb_t hK', xl_8t hK', sz_t hK' hZ, sz_5 hK' hZ, sz_5a hK' hZ, sz_5b hK' hZ, sz_11 hK' hZ, c_95 hK', hlt, c_40 (xl_8 hK') m0 hlt, xe, fi_t hK' m0 hlt, asc, Option.isSome_some, e3, f1, m0, m8]
    refine ih (m + 1) _ (by omega) (by omega) (Off_w hO rfl) (fun u u0 u1 => ?_)
    rw [ah_m_w]
    by_cases q : u = m
    · rw [if_pos ⟨rfl, q⟩, q]
    · rw [if_neg (fun z => q z.2)]; exact hu u u0 (by omega)
theorem c_213 (hK : XG T h) (hZ : isS s) (hX : NX T nw) (hP : RP s h) (z0 : nw 0 = 0 ∧ nw 1 = 0 ∧ nw 24 = 0) (hm : ∀ m, 0 ≤ m → m < T 1072 4 → ah_m h (xma h m) 3 = nw (2 + 2 * m) ∧ ah_m h (xma h m) 4 = nw (3 + 2 * m) ∧ nw (2 + 2 * m) ≠ -1) (hf : ∀ f, 0 ≤ f → f < T 1072 5 → ah_m h (xfi h f) 3 = nw (18 + f))
    (hQ : ∀ h', XG T h' → XS T nw s h' → Off (Wcp s) h h' → Q (.inl none) h') : wpC (d + 7) 213 [.inr (.inr s)] h Q := by
  have n8 := hK.2.2.2.1; have n6 := hK.2.2.2.2.1
  have hC := hK.2.2.2.2.2.1; have hR := hK.2.2.2.2.2.2.1
  have hN := NX_N hX
  have s25 : 25 ≤ s := by unfold isS at hZ; omega
  have s0 : 0 < s := by omega
  rw [wpC_B]; refine ⟨⟨Nat.zero_lt_succ _, Nat.le_of_ble_eq_true rfl⟩, ?_⟩; simp only [lent]
  simp (disch := omega) only [q_213_0, b_213_0, ↓w_iconst, ↓w_aload_n_0, ↓w_istore_n_1, ↓w_putfield_0, ↓w_nop, stw_0, stw_i, stw_l, stw_r, ofK0, ofK1, ofK2, lst1, lst2, lkill, kont_none, kont_some, Int.reduceToNat, List.length_cons, List.length_nil, Nat.reduceAdd, Nat.reduceLeDiff, Nat.zero_le, true_and, and_true, if_true, if_false, ne_eq, Int.reduceEq, Int.reduceNeg, not_false_eq_true, not_true_eq_false, ↓reduceIte, Int.reduceLT, Int.reduceLE, and_self, or_true, true_or, or_false, false_or, false_and, and_false, ah_t_w, ah_m_w, ah_n_w, lst1_0, List.tail_cons, w32_i, zbd, lst2_0, sz_t hK hZ, s0]
  generalize hg : ah_w (ah_w (ah_w h s 0 0) s 1 0) s 2 0 = g0
  have hO0 : Off (Wcp s) h g0 := by rw [← hg]; exact Off_w (Off_w (Off_w Off_rfl (by unfold Wcp; omega)) (by unfold Wcp; omega)) (by unfold Wcp; omega)
  have hK0 := XG_off hK hO0 (Wcp_ok hZ)
  have hB0 := XB_off hK.2.1 hO0 (fun r i w => (Wcp_ok hZ r i w).2)
  have gm : ∀ r i, BRr r → ah_m g0 r i = ah_m h r i := fun r i q => hO0.2 r i (fun w => (Wcp_ok hZ r i w).2.1 q)
  refine l_213_17 (d := d + 2) hK0 hZ (G := zpl5 nw) (fun m m0 m1 => ?_) (fun h1 hO1 e1 mm => ?_) (T 1072 4).toNat 0 g0 (by omega) (by omega) Off_rfl (fun u u0 u1 => by omega)
  · have hbr : BRr (xma h m) := ((xl_7 hK).2.2 m m0 m1).1
    rw [hB0.2.2.2.2.1 m m0 m1, gm _ _ hbr, gm _ _ hbr, (hm m m0 m1).1, (hm m m0 m1).2.1]
    rcases hN.2.1 m m0 m1 with q | q
    · exact absurd q.1 (hm m m0 m1).2.2
    · refine ⟨by omega, by omega, ?_⟩
      unfold zpl5; rw [if_neg (hm m m0 m1).2.2]
  · have hO1' : Off (Wcp s) h h1 := Off_tr hO0 (Off_mono (fun r i w => by unfold Wcp; omega) hO1)
    have hK1 := XG_off hK hO1' (Wcp_ok hZ)
    have hB1 := XB_off hK.2.1 hO1' (fun r i w => (Wcp_ok hZ r i w).2)
    simp (disch := omega) only [q_213_65, b_213_65, ↓w_iconst, ↓w_istore_n_1, ↓w_nop, stw_0, stw_i, stw_l, stw_r, ofK0, ofK1, ofK2, lst1, lst2, lkill, kont_none, kont_some, Int.reduceToNat, List.length_cons, List.length_nil, Nat.reduceAdd, Nat.reduceLeDiff, Nat.zero_le, true_and, and_true, if_true, if_false, ne_eq, Int.reduceEq, Int.reduceNeg, not_false_eq_true, not_true_eq_false, ↓reduceIte, Int.reduceLT, Int.reduceLE, and_self, or_true, true_or, or_false, false_or, false_and, and_false, ah_t_w, ah_m_w, ah_n_w, lst1_0, List.tail_cons, w32_i, zbd, lst2_0]
    refine l_213_67 (d := d + 2) hK1 hZ (G := fun f => nw (18 + f)) (fun f f0 f1 => ?_) (fun h2 hO2 e2 mm2 => ?_) (T 1072 5).toNat 0 h1 (by omega) (by omega) Off_rfl (fun u u0 u1 => by omega)
    · have hbr : BRr (xfi h f) := ((xl_8 hK).2.2 f f0 f1).1
      rw [hB1.2.2.2.2.2 f f0 f1, hO1'.2 _ _ (fun w => (Wcp_ok hZ _ _ w).2.1 hbr)]; exact hf f f0 f1
    · have hO2' : Off (Wcp s) h h2 := Off_tr hO1' (Off_mono (fun r i w => by unfold Wcp; omega) hO2)
      have hK2 := XG_off hK hO2' (Wcp_ok hZ)
      have tS := sz_t hK2 hZ
      simp (disch := omega) only [q_213_112, b_213_112, ↓w_aload_n_0, ↓w_return, ↓w_invokevirtual_0, stw_0, stw_i, stw_l, stw_r, ofK0, ofK1, ofK2, lst1, lst2, lkill, kont_none, kont_some, Int.reduceToNat, List.length_cons, List.length_nil, Nat.reduceAdd, Nat.reduceLeDiff, Nat.zero_le, true_and, and_true, if_true, if_false, ne_eq, Int.reduceEq, Int.reduceNeg, not_false_eq_true, not_true_eq_false, ↓reduceIte, Int.reduceLT, Int.reduceLE, and_self, or_true, true_or, or_false, false_or, false_and, and_false, ah_t_w, ah_m_w, ah_n_w, lst1_0, List.tail_cons, w32_i, zbd, lst2_0, tS]
      refine c_212 (d := d) hK2 hZ hX (fun m m0 m1 => by rw [hO2.2 _ _ (by omega)]; exact e1 m m0 m1) (fun h3 hK3 hO3 e7 eo => ?_)
      have hO3' : Off (Wcp s) h h3 := Off_tr hO2' (Off_mono (fun r i w => by unfold Wsd at w; unfold Wcp; omega) hO3)
      have x3 : ∀ r i, ¬ Wsd s r i → ah_m h3 r i = ah_m h2 r i := hO3.2
      have r4 : ∀ i, ah_m h3 (s + 4) i = ah_m h (s + 4) i := fun i => hO3'.2 _ _ (by unfold Wcp; omega)
      simp (disch := omega) only [b_213_112, ↓w_aload_n_0, ↓w_return, ↓w_invokevirtual_0, stw_0, stw_i, stw_l, stw_r, ofK0, ofK1, ofK2, lst1, lst2, lkill, kont_none, kont_some, Int.reduceToNat, List.length_cons, List.length_nil, Nat.reduceAdd, Nat.reduceLeDiff, Nat.zero_le, true_and, and_true, if_true, if_false, ne_eq, Int.reduceEq, Int.reduceNeg, not_false_eq_true, not_true_eq_false, ↓reduceIte, Int.reduceLT, Int.reduceLE, and_self, or_true, true_or, or_false, false_or, false_and, and_false, ah_t_w, ah_m_w, ah_n_w, lst1_0, List.tail_cons, w32_i, zbd, lst2_0]
      refine hQ h3 hK3 ⟨hZ, ⟨?_, ?_, ?_, e7⟩, fun m p q => ?_, eo, fun m p q => ?_, fun k i p q u v => ?_, fun k p q => ?_, fun j k a b c d e => ?_⟩ hO3'
      · rw [x3 _ _ (by unfold Wsd; omega), hO2.2 _ _ (by omega), hO1.2 _ _ (by omega), ← hg, z0.1]; simp [ah_m_w]
      · rw [x3 _ _ (by unfold Wsd; omega), hO2.2 _ _ (by omega), hO1.2 _ _ (by omega), ← hg, z0.2.1]; simp [ah_m_w]
      · rw [x3 _ _ (by unfold Wsd; omega), hO2.2 _ _ (by omega), hO1.2 _ _ (by omega), ← hg, z0.2.2]; simp [ah_m_w]
      · rw [x3 _ _ (by unfold Wsd; omega), hO2.2 _ _ (by omega)]; exact e1 m p q
      · rw [x3 _ _ (by unfold Wsd; omega)]; exact e2 m p q
      · omega
      · rw [r4]; exact hP.1 k p q
      · rw [r4, r4]; exact hP.2 j k a b c d e
end Y9
