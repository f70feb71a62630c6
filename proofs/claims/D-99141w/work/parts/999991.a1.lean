/-! ===== X: ways, reached ===== -/
def WAY (T : Int → Int → Int) (tp : Int → Int) (j : Nat) : Prop := ∀ (d : Nat) (nw : Int → Int) (h : AH) (Q : QQ), XG T h → XS T nw 70 h → NX T nw → nw 24 ≤ 40 → (∀ m, 0 ≤ m → m < T 1072 4 → ah_m h 118 m = zplf tp 0 m) → (∀ h', XG T h' → XS T nw 70 h' → Off (Wva j 70) h h' → Q (.inl (some (.inl (zwys T (zgl tp) j nw)))) h') → wpC (d + 8 + 2 * j) 132 [.inr (.inr 1), .inl j] h Q
section A1
variable {W : Int → Int → Prop} {d : Nat} {h h' h1 h0 : AH} {Q : QQ} {x y z m k s l w a b v n p r o i f D0 D1 rm fr R : Int} {S T T' : Int → Int → Int} {t nw nw' pt of tp sr hm g : Int → Int} {tl : ALoc} {c : Int × Int × Int}
set_option maxHeartbeats 4000000
theorem zeqg_iff : ∀ (j : Nat) (i : Int), zeqg nw g j i = true ↔ ∀ u, i ≤ u → u < i + j → nw (2 + u) = g u := by
  intro j
  induction j with
  | zero => intro i; simp only [zeqg]; exact ⟨fun _ u a b => by omega, fun _ => by decide⟩
  | succ j ih =>
    intro i
    simp only [zeqg]
    by_cases e : nw (2 + i) = g i
    · rw [if_pos e, ih]
      constructor
      · intro q u a b
        by_cases z : u = i
        · rw [z]; exact e
        · exact q u (by omega) (by omega)
      · intro q u a b; exact q u (by omega) (by omega)
    · rw [if_neg e]
      exact ⟨fun q => (by cases q), fun q => absurd (q i (by omega) (by omega)) e⟩
theorem zeq_place (hN : NV T nw) (hC : T 1074 4 ≤ 5) (hR : T 1074 5 ≤ 5) (m0 : 0 ≤ m) (m1 : m < T 1072 4) (hb : 0 ≤ tp (2 * m) ∧ 0 ≤ tp (2 * m + 1)) (hz : (tp (2 * m) = 255 ∧ tp (2 * m + 1) = 255) ∨ (tp (2 * m) < T 1074 4 ∧ tp (2 * m + 1) < T 1074 5)) : zpl5 nw m = zplf tp 0 m ↔ (nw (2 + 2 * m) = zgl tp (2 * m) ∧ nw (3 + 2 * m) = zgl tp (2 * m + 1)) := by
  have hv := hN.2.1 m m0 m1
  unfold zpl5 zplf zgl
  rw [Int.zero_add]
  rcases hz with q | q
  · rw [if_pos q, if_pos q.1, if_pos q.2]
    by_cases g : nw (2 + 2 * m) = -1
    · rw [if_pos g]; constructor
      · intro _; rcases hv with u | u
        · exact u
        · omega
      · intro _; rfl
    · rw [if_neg g]; constructor
      · intro z; rcases hv with u | u
        · exact u
        · omega
      · intro z; exact absurd z.1 g
  · rw [if_neg (c := tp (2 * m) = 255 ∧ tp (2 * m + 1) = 255) (by omega), if_neg (c := tp (2 * m) = 255) (by omega), if_neg (c := tp (2 * m + 1) = 255) (by omega)]
    by_cases g : nw (2 + 2 * m) = -1
    · rw [if_pos g]; constructor
      · intro z; omega
      · intro z; omega
    · rw [if_neg g]
      rcases hv with u | u
      · exact absurd u.1 g
      · constructor
        · intro z; constructor <;> omega
        · intro z; omega
theorem l_132_6 (hK : XG T h) (hS : XS T nw 70 h) (hN : NV T nw) (hg : ∀ m, 0 ≤ m → m < T 1072 4 → ah_m h 118 m = zplf tp 0 m) (hb : ∀ m, 0 ≤ m → m < T 1072 4 → (zpl5 nw m = zplf tp 0 m ↔ (nw (2 + 2 * m) = zgl tp (2 * m) ∧ nw (3 + 2 * m) = zgl tp (2 * m + 1)))) {a1 : Int} : ∀ (j : Nat) (m : Int), 0 ≤ m → m + j = T 1072 4 → wpB (d + 2) 132 6 [some (.inr (.inr 1)), some (.inl a1), some (.inl m)] [] h (fun o h1 => o = .inl (some (.inl (zb (zeqg nw (zgl tp) (2 * j) (2 * m))))) ∧ h1 = h) := by
  have n8 := hK.2.2.2.1
  intro j
  induction j with
  | zero =>
    intro m m0 m1
    have hlt : ¬ m < T 1072 4 := by omega
    simp (disch := omega) only [q_132_6, b_132_6, q_132_40, b_132_40, ↓w_iconst, ↓w_aload_n_0, ↓w_iload_n_2, ↓w_getfield, ↓w_iaload, ↓w_if_icmp_eq, ↓w_if_icmp_ge, ↓w_ireturn0, ↓w_invokevirtual_0, stw_0, stw_i, stw_l, stw_r, ofK0, ofK1, ofK2, lst1, lst2, lkill, kont_none, kont_some, Int.reduceToNat, List.length_cons, List.length_nil, Nat.reduceAdd, Nat.reduceLeDiff, Nat.zero_le, true_and, and_true, if_true, if_false, ne_eq, Int.reduceEq, Int.reduceNeg, not_false_eq_true, not_true_eq_false, ↓reduceIte, Int.reduceLT, Int.reduceLE, and_self, or_true, true_or, or_false, false_or, false_and, and_false, ah_t_w, ah_m_w, ah_n_w, lst1_0, List.tail_cons, w32_i, zbd, lst2_0, xt_1a hK, xf_1_13 hK, xf_1_18 hK, xt_118a hK, xt_118b hK, s_t hK hS, s_3 hK hS, s_3a hK hS, s_3b hK hS, c_81 hK, hlt, zeqg, zb_t, Nat.mul_zero]
  | succ j ih =>
    intro m m0 m1
    have hlt : m < T 1072 4 := by omega
    have m8 : m < 8 := by omega
    have ep := sp hS m0 hlt
    have eg := hg m m0 hlt
    have hb := hb m m0 hlt
    have ih := ih (m + 1) (by omega) (by omega)
    have ezq : zeqg nw (zgl tp) (2 * (j + 1)) (2 * m) = (if nw (2 + 2 * m) = zgl tp (2 * m) ∧ nw (3 + 2 * m) = zgl tp (2 * m + 1) then zeqg nw (zgl tp) (2 * j) (2 * (m + 1)) else false) := by
      rw [show 2 * (j + 1) = (2 * j + 1) + 1 by omega]
      simp only [zeqg]
      rw [show 2 * m + 1 + 1 = 2 * (m + 1) by omega, show 2 + (2 * m + 1) = 3 + 2 * m by omega]
      by_cases g1 : nw (2 + 2 * m) = zgl tp (2 * m)
      · by_cases g2 : nw (3 + 2 * m) = zgl tp (2 * m + 1)
        · rw [if_pos g1, if_pos g2, if_pos ⟨g1, g2⟩]
        · rw [if_pos g1, if_neg g2, if_neg (fun q => g2 q.2)]
      · rw [if_neg g1, if_neg (fun q => g1 q.1)]
    rw [q_132_6, ezq]
    by_cases g : zpl5 nw m = zplf tp 0 m
    · rw [if_pos (hb.1 g)]
      simp (disch := omega) only [b_132_6, q_132_34, b_132_34, ↓w_iconst, ↓w_aload_n_0, ↓w_iload_n_2, ↓w_iinc_2, ↓w_getfield, ↓w_iaload, ↓w_goto, ↓w_if_icmp_eq, ↓w_if_icmp_ge, ↓w_ireturn0, ↓w_invokevirtual_0, stw_0, stw_i, stw_l, stw_r, ofK0, ofK1, ofK2, lst1, lst2, lkill, kont_none, kont_some, Int.reduceToNat, List.length_cons, List.length_nil, Nat.reduceAdd, Nat.reduceLeDiff, Nat.zero_le, true_and, and_true, if_true, if_false, ne_eq, Int.reduceEq, Int.reduceNeg, not_false_eq_true, not_true_eq_false, ↓reduceIte, Int.reduceLT, Int.reduceLE, and_self, or_true, true_or, or_false, false_or, false_and, and_false, ah_t_w, ah_m_w, ah_n_w, lst1_0, List.tail_cons, w32_i, zbd, lst2_0, xt_1a hK, xf_1_13 hK, xf_1_18 hK, xt_118a hK, xt_118b hK, s_t hK hS, s_3 hK hS, s_3a hK hS, s_3b hK hS, c_81 hK, hlt, ep, eg, m0, m8, eq_true g]
      exact ih
    · rw [if_neg (fun q => g (hb.2 q))]
      simp (disch := omega) only [b_132_6, ↓w_iconst, ↓w_aload_n_0, ↓w_iload_n_2, ↓w_getfield, ↓w_iaload, ↓w_if_icmp_eq, ↓w_if_icmp_ge, ↓w_ireturn0, ↓w_invokevirtual_0, stw_0, stw_i, stw_l, stw_r, ofK0, ofK1, ofK2, lst1, lst2, lkill, kont_none, kont_some, Int.reduceToNat, List.length_cons, List.length_nil, Nat.reduceAdd, Nat.reduceLeDiff, Nat.zero_le, true_and, and_true, if_true, if_false, ne_eq, Int.reduceEq, Int.reduceNeg, not_false_eq_true, not_true_eq_false, ↓reduceIte, Int.reduceLT, Int.reduceLE, and_self, or_true, true_or, or_false, false_or, false_and, and_false, ah_t_w, ah_m_w, ah_n_w, lst1_0, List.tail_cons, w32_i, zbd, lst2_0, xt_1a hK, xf_1_13 hK, xf_1_18 hK, xt_118a hK, xt_118b hK, s_t hK hS, s_3 hK hS, s_3a hK hS, s_3b hK hS, c_81 hK, hlt, ep, eg, m0, m8, eq_false g, zb_f]
theorem WAY_0 (hb : ∀ nw, NV T nw → ∀ m, 0 ≤ m → m < T 1072 4 → (zpl5 nw m = zplf tp 0 m ↔ (nw (2 + 2 * m) = zgl tp (2 * m) ∧ nw (3 + 2 * m) = zgl tp (2 * m + 1)))) : WAY T tp 0 := by
  intro d nw h Q hK hS hX h40 hg hQ
  have n8 := hK.2.2.2.1
  rw [show d + 8 + 2 * 0 = (d + 7) + 1 by omega]
  rw [wpC_B]; refine ⟨⟨Nat.zero_lt_succ _, Nat.le_of_ble_eq_true rfl⟩, ?_⟩; simp only [lent]
  have e0 : ((0 : Nat) : Int) = 0 := rfl
  simp (disch := omega) only [q_132_0, b_132_0, ↓w_iconst, ↓w_iload_n_1, ↓w_istore_n_2, ↓w_nop, ↓w_ifCond_ne, stw_0, stw_i, stw_l, stw_r, ofK0, ofK1, ofK2, lst1, lst2, lkill, kont_none, kont_some, Int.reduceToNat, List.length_cons, List.length_nil, Nat.reduceAdd, Nat.reduceLeDiff, Nat.zero_le, true_and, and_true, if_true, if_false, ne_eq, Int.reduceEq, Int.reduceNeg, not_false_eq_true, not_true_eq_false, ↓reduceIte, Int.reduceLT, Int.reduceLE, and_self, or_true, true_or, or_false, false_or, false_and, and_false, ah_t_w, ah_m_w, ah_n_w, lst1_0, List.tail_cons, w32_i, zbd, lst2_0, e0]
  refine wpB_mono (l_132_6 (d := d + 5) hK hS (NX_N hX) hg (hb nw (NX_N hX)) (zn T) 0 (by omega) (by unfold zn; omega)) (fun o h2 q => ?_)
  rw [q.1, q.2]
  exact hQ h hK hS Off_rfl
theorem l_132_81 {j : Nat} (hL : WAY T tp j) (hj : j ≤ 2) (hX : NX T nw) (h40 : nw 24 ≤ 40) (hlen : ((zmv T nw).length : Int) ≤ 200)
    (hQ : ∀ h', XG T h' → XS T nw 70 h' → Off (Wva (j + 1) 70) h h' → Q (.inl (some (.inl (zsm (fun x => zwys T (zgl tp) j (zdo T nw x.1 x.2)) (zmv T nw) 0)))) h') :
    ∀ (R : List (Int × Int)) (i a : Int) tl h', 0 ≤ i → i + R.length = (zmv T nw).length → (0 ≤ a ∧ a ≤ i * 40000) → (∀ q ∈ R, q ∈ zmv T nw) → XG T h' → XS T nw 70 h' → (∀ m, 0 ≤ m → m < T 1072 4 → ah_m h' 118 m = zplf tp 0 m) → ah_m h' (1023 + 3 * j) 2 = (zmv T nw).length → XMl T (1023 + 3 * j) h' R i →
      zsm (fun x => zwys T (zgl tp) j (zdo T nw x.1 x.2)) R a = zsm (fun x => zwys T (zgl tp) j (zdo T nw x.1 x.2)) (zmv T nw) 0 → Off (Wva (j + 1) 70) h h' →
      wpB (d + 9 + 2 * j) 132 81 (some (.inr (.inr 1)) :: some (.inl (j + 1)) :: some (.inr (.inr (1023 + 3 * j))) :: some (.inl a) :: some (.inl i) :: tl) [] h' Q := by
  have hV : isV (1023 + 3 * j) := by unfold isV; omega
  have hT := NX_T hX
  intro R
  induction R with
  | nil =>
    intro i a tl h' i0 i1 ha hR hK hS hg e2 hx e hO
    have hlt : ¬ i < (zmv T nw).length := by simp at i1; omega
    simp (disch := omega) only [q_132_81, b_132_81, q_132_158, b_132_158, ↓w_iconst, ↓w_aload_n_0, ↓w_iload_n_1, ↓w_aload_n_2, ↓w_iload_n_3, ↓w_iload_4, ↓w_iinc_4, ↓w_iload_5, ↓w_iload_6, ↓w_iload_7, ↓w_istore, ↓w_istore_n_3, ↓w_iadd, ↓w_isub, ↓w_getfield, ↓w_iaload, ↓w_goto, ↓w_if_icmp_ge, ↓w_ireturn0, ↓w_invokevirtual_1, ↓w_invokevirtual_2, ↓w_invokevirtual_3, stw_0, stw_i, stw_l, stw_r, ofK0, ofK1, ofK2, lst1, lst2, lkill, kont_none, kont_some, Int.reduceToNat, List.length_cons, List.length_nil, Nat.reduceAdd, Nat.reduceLeDiff, Nat.zero_le, true_and, and_true, if_true, if_false, ne_eq, Int.reduceEq, Int.reduceNeg, not_false_eq_true, not_true_eq_false, ↓reduceIte, Int.reduceLT, Int.reduceLE, and_self, or_true, true_or, or_false, false_or, false_and, and_false, ah_t_w, ah_m_w, ah_n_w, lst1_0, List.tail_cons, w32_i, zbd, lst2_0, xt_1a hK, xf_1_13 hK, vv_t hK hV, vv_0 hK hV, vv_0a hK hV, vv_0b hK hV, vv_1 hK hV, vv_1a hK hV, vv_1b hK hV, s_t hK hS, s_3 hK hS, s_3a hK hS, s_3b hK hS, e2, hlt]
    simp only [zsm] at e
    rw [e]
    exact hQ h' hK hS hO
  | cons q R ih =>
    intro i a tl h' i0 i1 ha hR hK hS hg e2 hx e hO
    have hlt : i < (zmv T nw).length := by simp at i1; omega
    have i2 : i < 200 := by omega
    have ho := mv_ok hX (hR q List.mem_cons_self)
    have hm := ho.1
    have n8 := hK.2.2.2.1
    have m8 : q.1 < 8 := by omega
    have m0 := hm.1
    have ep := sp hS hm.1 hm.2
    have x1 := hx.1.1
    have x2 := hx.1.2
    have hXd := NX_do hX hm.1 hm.2 ho.2.2.1.1 ho.2.2.1.2
    have d24 : zdo T nw q.1 q.2 24 ≤ 40 := by rw [zdo_r hX hm.1 hm.2 (by omega)]; exact h40
    have hwb := zwys_b (g := zgl tp) hT j (zdo T nw q.1 q.2)
    have hwb2 : zwys T (zgl tp) j (zdo T nw q.1 q.2) ≤ 40000 := by
      have : j = 0 ∨ j = 1 ∨ j = 2 := by omega
      rcases this with u | u | u <;> subst u <;> simp at hwb <;> omega
    rw [q_132_81]
    simp (disch := omega) only [b_132_81, ↓w_iconst, ↓w_aload_n_0, ↓w_iload_n_1, ↓w_aload_n_2, ↓w_iload_n_3, ↓w_iload_4, ↓w_iinc_4, ↓w_iload_5, ↓w_iload_6, ↓w_iload_7, ↓w_istore, ↓w_istore_n_3, ↓w_iadd, ↓w_isub, ↓w_getfield, ↓w_iaload, ↓w_goto, ↓w_if_icmp_ge, ↓w_invokevirtual_1, ↓w_invokevirtual_2, ↓w_invokevirtual_3, stw_0, stw_i, stw_l, stw_r, ofK0, ofK1, ofK2, lst1, lst2, lkill, kont_none, kont_some, Int.reduceToNat, List.length_cons, List.length_nil, Nat.reduceAdd, Nat.reduceLeDiff, Nat.zero_le, true_and, and_true, if_true, if_false, ne_eq, Int.reduceEq, Int.reduceNeg, not_false_eq_true, not_true_eq_false, ↓reduceIte, Int.reduceLT, Int.reduceLE, and_self, or_true, true_or, or_false, false_or, false_and, and_false, ah_t_w, ah_m_w, ah_n_w, lst1_0, List.tail_cons, w32_i, zbd, lst2_0, xt_1a hK, xf_1_13 hK, vv_t hK hV, vv_0 hK hV, vv_0a hK hV, vv_0b hK hV, vv_1 hK hV, vv_1a hK hV, vv_1b hK hV, s_t hK hS, s_3 hK hS, s_3a hK hS, s_3b hK hS, e2, hlt, x1, x2, i0, i2, ep, m0, m8]
    refine wpC_deep (c_221 (d := d) hK hS hX h40 hm.1 hm.2 ho.2.1 ho.2.2.1.1 ho.2.2.1.2 ho.2.2.2 (fun h1 hK1 hS1 hO1 => ?_)) (by omega)
    have u1 := xt_1a hK1
    simp (disch := omega) only [b_132_81, ↓w_iconst, ↓w_aload_n_0, ↓w_iload_n_1, ↓w_aload_n_2, ↓w_iload_n_3, ↓w_iload_4, ↓w_iinc_4, ↓w_iload_5, ↓w_iload_6, ↓w_iload_7, ↓w_istore, ↓w_istore_n_3, ↓w_iadd, ↓w_isub, ↓w_getfield, ↓w_iaload, ↓w_goto, ↓w_if_icmp_ge, ↓w_invokevirtual_1, ↓w_invokevirtual_2, ↓w_invokevirtual_3, stw_0, stw_i, stw_l, stw_r, ofK0, ofK1, ofK2, lst1, lst2, lkill, kont_none, kont_some, Int.reduceToNat, List.length_cons, List.length_nil, Nat.reduceAdd, Nat.reduceLeDiff, Nat.zero_le, true_and, and_true, if_true, if_false, ne_eq, Int.reduceEq, Int.reduceNeg, not_false_eq_true, not_true_eq_false, ↓reduceIte, Int.reduceLT, Int.reduceLE, and_self, or_true, true_or, or_false, false_or, false_and, and_false, ah_t_w, ah_m_w, ah_n_w, lst1_0, List.tail_cons, w32_i, zbd, lst2_0, u1, show (j : Int) + 1 - 1 = j by omega]
    have hg1 : ∀ m, 0 ≤ m → m < T 1072 4 → ah_m h1 118 m = zplf tp 0 m := fun m a b => by rw [hO1.2 _ _ (by unfold WSs; omega)]; exact hg m a b
    refine wpC_deep (hL d _ h1 _ hK1 hS1 hXd d24 hg1 (fun h2 hK2 hS2 hO2 => ?_)) (by omega)
    simp (disch := omega) only [b_132_81, ↓w_iconst, ↓w_aload_n_0, ↓w_iload_n_1, ↓w_aload_n_2, ↓w_iload_n_3, ↓w_iload_4, ↓w_iinc_4, ↓w_iload_5, ↓w_iload_6, ↓w_iload_7, ↓w_istore, ↓w_istore_n_3, ↓w_iadd, ↓w_isub, ↓w_getfield, ↓w_iaload, ↓w_goto, ↓w_if_icmp_ge, ↓w_invokevirtual_1, ↓w_invokevirtual_2, ↓w_invokevirtual_3, stw_0, stw_i, stw_l, stw_r, ofK0, ofK1, ofK2, lst1, lst2, lkill, kont_none, kont_some, Int.reduceToNat, List.length_cons, List.length_nil, Nat.reduceAdd, Nat.reduceLeDiff, Nat.zero_le, true_and, and_true, if_true, if_false, ne_eq, Int.reduceEq, Int.reduceNeg, not_false_eq_true, not_true_eq_false, ↓reduceIte, Int.reduceLT, Int.reduceLE, and_self, or_true, true_or, or_false, false_or, false_and, and_false, ah_t_w, ah_m_w, ah_n_w, lst1_0, List.tail_cons, w32_i, zbd, lst2_0, xt_1a hK2, xf_1_13 hK2, s_t hK2 hS2, s_3 hK2 hS2, s_3a hK2 hS2, s_3b hK2 hS2]
    refine wpC_deep (c_226 (d := d) hK2 hS2 hX h40 hm.1 hm.2 ho.2.1 ho.2.2.1.1 ho.2.2.1.2 ho.2.2.2 (fun h3 hK3 hS3 hO3 => ?_)) (by omega)
    have hO3' : Off (Wva j 70) h' h3 := Off_tr (Off_mono WSs_va hO1) (Off_tr hO2 (Off_mono WSs_va hO3))
    simp (disch := omega) only [b_132_81, ↓w_iconst, ↓w_aload_n_0, ↓w_iload_n_1, ↓w_aload_n_2, ↓w_iload_n_3, ↓w_iload_4, ↓w_iinc_4, ↓w_iload_5, ↓w_iload_6, ↓w_iload_7, ↓w_istore, ↓w_istore_n_3, ↓w_iadd, ↓w_isub, ↓w_getfield, ↓w_iaload, ↓w_goto, ↓w_if_icmp_ge, ↓w_invokevirtual_1, ↓w_invokevirtual_2, ↓w_invokevirtual_3, stw_0, stw_i, stw_l, stw_r, ofK0, ofK1, ofK2, lst1, lst2, lkill, kont_none, kont_some, Int.reduceToNat, List.length_cons, List.length_nil, Nat.reduceAdd, Nat.reduceLeDiff, Nat.zero_le, true_and, and_true, if_true, if_false, ne_eq, Int.reduceEq, Int.reduceNeg, not_false_eq_true, not_true_eq_false, ↓reduceIte, Int.reduceLT, Int.reduceLE, and_self, or_true, true_or, or_false, false_or, false_and, and_false, ah_t_w, ah_m_w, ah_n_w, lst1_0, List.tail_cons, w32_i, zbd, lst2_0]
    have hx3 : XMl T (1023 + 3 * j) h3 R (i + 1) := XMl_off hO3' (fun r i w => by unfold Wva WSs at w; omega) R (i + 1) hx.2
    simp only [zsm] at e
    exact ih (i + 1) _ _ h3 (by omega) (by simp at i1; omega) (by omega) (fun u hu => hR u (List.mem_cons_of_mem _ hu)) hK3 hS3 (fun m a b => by rw [hO3'.2 _ _ (by unfold Wva WSs; omega)]; exact hg m a b) (by rw [hO3'.2 _ _ (by unfold Wva WSs; omega)]; exact e2) hx3 e (Off_tr hO (Off_mono (Wva_le (by omega)) hO3'))
theorem WAY_s {j : Nat} (hL : WAY T tp j) (hj : j ≤ 2) : WAY T tp (j + 1) := by
  intro d nw h Q hK hS hX h40 hg hQ
  have hV : isV (1023 + 3 * j) := by unfold isV; omega
  have hN := NX_N hX
  rw [show d + 8 + 2 * (j + 1) = (d + 9 + 2 * j) + 1 by omega]
  have ej : ((j + 1 : Nat) : Int) = (j : Int) + 1 := by omega
  rw [ej] at hQ ⊢
  have j0 : ¬ (j : Int) + 1 = 0 := by omega
  have hz := @zcn_z T nw (zn T) 0
  rw [wpC_B]; refine ⟨⟨Nat.zero_lt_succ _, Nat.le_of_ble_eq_true rfl⟩, ?_⟩; simp only [lent]
  simp only [zwys] at hQ
  by_cases g : zcr T nw = true
  · rw [if_pos g] at hQ
    have g1 : 0 < zcn T nw (zn T) 0 := hz.1 g
    simp (disch := omega) only [q_132_0, b_132_0, q_132_42, b_132_42, ↓w_iconst, ↓w_aload_n_0, ↓w_iload_n_1, ↓w_istore_n_2, ↓w_getfield, ↓w_nop, ↓w_ifCond_ne, ↓w_ifCond_le, ↓w_ireturn0, stw_0, stw_i, stw_l, stw_r, ofK0, ofK1, ofK2, lst1, lst2, lkill, kont_none, kont_some, Int.reduceToNat, List.length_cons, List.length_nil, Nat.reduceAdd, Nat.reduceLeDiff, Nat.zero_le, true_and, and_true, if_true, if_false, ne_eq, Int.reduceEq, Int.reduceNeg, not_false_eq_true, not_true_eq_false, ↓reduceIte, Int.reduceLT, Int.reduceLE, and_self, or_true, true_or, or_false, false_or, false_and, and_false, ah_t_w, ah_m_w, ah_n_w, lst1_0, List.tail_cons, w32_i, zbd, lst2_0, xt_1a hK, xf_1_13 hK, s_t hK hS, s_7 hS, j0, g1]
    exact hQ h hK hS Off_rfl
  · rw [if_neg g] at hQ
    have g1 : ¬ 0 < zcn T nw (zn T) 0 := fun z => g (hz.2 z)
    have mv : ah_m h 18 (j + 1) = 1023 + 3 * j := by
      have : j = 0 ∨ j = 1 ∨ j = 2 := by omega
      rcases this with e | e | e <;> subst e
      · exact xf_18_1 hK
      · exact xf_18_2 hK
      · exact xf_18_3 hK
    simp (disch := omega) only [q_132_0, b_132_0, q_132_42, b_132_42, q_132_54, b_132_54, ↓w_iconst, ↓w_aload_n_0, ↓w_iload_n_1, ↓w_aload_n_2, ↓w_istore, ↓w_istore_n_2, ↓w_istore_n_3, ↓w_astore_n_2, ↓w_getfield, ↓w_aaload, ↓w_nop, ↓w_ifCond_ne, ↓w_ifCond_le, ↓w_ireturn0, ↓w_invokevirtual_2, stw_0, stw_i, stw_l, stw_r, ofK0, ofK1, ofK2, lst1, lst2, lkill, kont_none, kont_some, Int.reduceToNat, List.length_cons, List.length_nil, Nat.reduceAdd, Nat.reduceLeDiff, Nat.zero_le, true_and, and_true, if_true, if_false, ne_eq, Int.reduceEq, Int.reduceNeg, not_false_eq_true, not_true_eq_false, ↓reduceIte, Int.reduceLT, Int.reduceLE, and_self, or_true, true_or, or_false, false_or, false_and, and_false, ah_t_w, ah_m_w, ah_n_w, lst1_0, List.tail_cons, w32_i, zbd, lst2_0, xt_1a hK, xf_1_9 hK, xt_18a hK, xt_18b hK, xf_1_13 hK, s_t hK hS, s_1 hS, s_7 hS, j0, g1, mv]
    refine wpC_deep (c_215 (d := d) hK hS h40 hN hV (fun h1 hx hlen hO1 => ?_)) (by omega)
    have hx : XM T (1023 + 3 * j) (zmv T nw) h1 := hx
    have hlen : ((zmv T nw).length : Int) ≤ 200 := hlen
    have hK1 := XG_off hK hO1 (Wmv_ok hV)
    have hS1 := XS_off hS h40 hO1 (Wmv_S hV is70)
    have hOv : Off (Wva (j + 1) 70) h h1 := Off_mono (fun r i w => by unfold Wmv at w; exact Or.inr (by omega)) hO1
    simp (disch := omega) only [b_132_54, ↓w_iconst, ↓w_aload_n_0, ↓w_iload_n_1, ↓w_aload_n_2, ↓w_istore, ↓w_istore_n_3, ↓w_astore_n_2, ↓w_getfield, ↓w_aaload, ↓w_nop, ↓w_invokevirtual_2, stw_0, stw_i, stw_l, stw_r, ofK0, ofK1, ofK2, lst1, lst2, lkill, kont_none, kont_some, Int.reduceToNat, List.length_cons, List.length_nil, Nat.reduceAdd, Nat.reduceLeDiff, Nat.zero_le, true_and, and_true, if_true, if_false, ne_eq, Int.reduceEq, Int.reduceNeg, not_false_eq_true, not_true_eq_false, ↓reduceIte, Int.reduceLT, Int.reduceLE, and_self, or_true, true_or, or_false, false_or, false_and, and_false, ah_t_w, ah_m_w, ah_n_w, lst1_0, List.tail_cons, w32_i, zbd, lst2_0]
    exact l_132_81 hL hj hX h40 hlen hQ (zmv T nw) 0 0 _ h1 (by omega) (by omega) (by omega) (fun _ z => z) hK1 hS1 (fun m a b => by rw [hO1.2 _ _ (by unfold Wmv; omega)]; exact hg m a b) hx.1 hx.2 rfl hOv
theorem c_130 (hA : XA T nw h) (hX : NX T nw) (hF : FV nw) (en : ah_m h 1 2 = n) (hT : XTp tp n h) (hv : TPV tp n)
    (hQ0 : ∀ h', zrch T nw tp (T 1074 4) n w = false → XA T nw h' → Off (fun r i => r = 118 ∨ (r = 1 ∧ i = 2) ∨ (r = 17 ∧ i = 1)) h h' → ah_m h' 1 2 = 0 → ah_m h' 17 1 = w32 (ah_m h 17 1 + 1) → Q (.inl (some (.inl (-1)))) h')
    (hQ1 : ∀ h', zrch T nw tp (T 1074 4) n w = true → XA T nw h' → Off (fun r i => Wth r i ∨ (r = 1 ∧ i = 2)) h h' → ah_m h' 1 2 = 0 → Q (.inl (some (.inl (zwys T (zgl tp) w.toNat nw)))) h') : wpC (d + 16) 130 [.inr (.inr 1), .inl w] h Q := by
  have hK := hA.1
  have h40 := hF.2.2.2
  have n8 := hK.2.2.2.1
  have hC := hK.2.2.2.2.2.1; have hR5 := hK.2.2.2.2.2.2.1
  have W1 : ∀ r i, (r = 118 ∨ (r = 1 ∧ i = 2) ∨ (r = 17 ∧ i = 1)) → ¬ fix r i ∧ ¬ BRr r ∧ ¬ (r = 1 ∧ i = 0) := fun r i w => by unfold fix BRr isS isV; omega
  have XAo : ∀ {h'}, Off (fun r i => r = 118 ∨ (r = 1 ∧ i = 2) ∨ (r = 17 ∧ i = 1)) h h' → XA T nw h' := fun {h'} hO => ⟨XG_off hK hO W1, XS_off hA.2.1 h40 hO (fun r i w => by omega), XH_off hA.2.2.1 hK.2.1 hO (fun r i w => ⟨by omega, (W1 r i w).2⟩), fun s hs => RP_off (hA.2.2.2 s hs) hO (fun r i w => by unfold isS at hs; omega)⟩
  have hO1 : Off (fun r i => r = 118 ∨ (r = 1 ∧ i = 2) ∨ (r = 17 ∧ i = 1)) h (ah_w h 1 2 0) := Off_w Off_rfl (by omega)
  have hK1 := XG_off hK hO1 W1
  have hT1 := XT_off hT hO1 (fun r i w => by omega)
  rw [wpC_B]; refine ⟨⟨Nat.zero_lt_succ _, Nat.le_of_ble_eq_true rfl⟩, ?_⟩; simp only [lent]
  simp (disch := omega) only [q_130_0, b_130_0, ↓w_iconst, ↓w_aload_n_0, ↓w_iload_n_1, ↓w_iload_n_2, ↓w_istore_n_2, ↓w_imul, ↓w_getfield, ↓w_nop, ↓w_ifCond_eq, ↓w_ifCond_ne, ↓w_if_icmp_ne, ↓w_invokevirtual_0, ↓w_invokevirtual_2, ↓w_invokestatic_3, stw_0, stw_i, stw_l, stw_r, ofK0, ofK1, ofK2, lst1, lst2, lkill, kont_none, kont_some, Int.reduceToNat, List.length_cons, List.length_nil, Nat.reduceAdd, Nat.reduceLeDiff, Nat.zero_le, true_and, and_true, if_true, if_false, ne_eq, Int.reduceEq, Int.reduceNeg, not_false_eq_true, not_true_eq_false, ↓reduceIte, Int.reduceLT, Int.reduceLE, and_self, or_true, true_or, or_false, false_or, false_and, and_false, ah_t_w, ah_m_w, ah_n_w, lst1_0, List.tail_cons, w32_i, zbd, lst2_0, xt_1a hK, xf_1_18 hK, xt_118a hK, xt_118b hK, c_89 hK, en]
  generalize hg1 : ah_w h 1 2 0 = g1 at *
  have e12 : ah_m g1 1 2 = 0 := by rw [← hg1, ah_m_w, if_pos ⟨rfl, rfl⟩]
  have bad : zrch T nw tp (T 1074 4) n w = false → ∀ h2 tl, Off (fun r i => r = 118) g1 h2 → wpB (d + 15) 130 43 (some (.inr (.inr 1)) :: tl) [] h2 Q := by
    intro e h2 tl hO2
    have hO2' : Off (fun r i => r = 118 ∨ (r = 1 ∧ i = 2) ∨ (r = 17 ∧ i = 1)) h h2 := Off_tr hO1 (Off_mono (fun r i w => Or.inl w) hO2)
    have hK2 := XG_off hK hO2' W1
    have r17 : ah_m h2 17 1 = ah_m h 17 1 := by rw [hO2.2 _ _ (by omega), ← hg1, ah_m_w, if_neg (by omega)]
    simp (disch := omega) only [q_130_43, b_130_43, ↓w_iconst, ↓w_aload_n_0, ↓w_ireturn0, ↓w_invokevirtual_1, stw_0, stw_i, stw_l, stw_r, ofK0, ofK1, ofK2, lst1, lst2, lkill, kont_none, kont_some, Int.reduceToNat, List.length_cons, List.length_nil, Nat.reduceAdd, Nat.reduceLeDiff, Nat.zero_le, true_and, and_true, if_true, if_false, ne_eq, Int.reduceEq, Int.reduceNeg, not_false_eq_true, not_true_eq_false, ↓reduceIte, Int.reduceLT, Int.reduceLE, and_self, or_true, true_or, or_false, false_or, false_and, and_false, ah_t_w, ah_m_w, ah_n_w, lst1_0, List.tail_cons, w32_i, zbd, lst2_0, xt_1a hK2, c_85 hK2]
    have hO3 : Off (fun r i => r = 118 ∨ (r = 1 ∧ i = 2) ∨ (r = 17 ∧ i = 1)) h (ah_w h2 17 1 (w32 (ah_m h2 17 1 + 1))) := Off_w hO2' (by omega)
    exact hQ0 _ e (XAo hO3) hO3 (by rw [ah_m_w, if_neg (by omega), hO2.2 _ _ (by omega)]; exact e12) (by rw [ah_m_w, if_pos ⟨rfl, rfl⟩, r17])
  by_cases g : 0 < T 1074 4
  · by_cases gw : 0 ≤ w ∧ w ≤ 3
    · by_cases gn : n = 2 * T 1072 4
      · have tR : ah_t g1 118 = (-1, 8) := Prod.ext (xt_118a hK1) (xt_118b hK1)
        have ez : zrch T nw tp (T 1074 4) n w = zam T tp 0 (zn T) 0 := by unfold zrch; rw [decide_eq_true ⟨by omega, gw, gn⟩, Bool.true_and]
        simp (disch := omega) only [b_130_0, ↓w_iconst, ↓w_aload_n_0, ↓w_iload_n_1, ↓w_iload_n_2, ↓w_istore_n_2, ↓w_imul, ↓w_getfield, ↓w_nop, ↓w_ifCond_eq, ↓w_ifCond_ne, ↓w_if_icmp_ne, ↓w_invokevirtual_0, ↓w_invokevirtual_2, ↓w_invokestatic_3, stw_0, stw_i, stw_l, stw_r, ofK0, ofK1, ofK2, lst1, lst2, lkill, kont_none, kont_some, Int.reduceToNat, List.length_cons, List.length_nil, Nat.reduceAdd, Nat.reduceLeDiff, Nat.zero_le, true_and, and_true, if_true, if_false, ne_eq, Int.reduceEq, Int.reduceNeg, not_false_eq_true, not_true_eq_false, ↓reduceIte, Int.reduceLT, Int.reduceLE, and_self, or_true, true_or, or_false, false_or, false_and, and_false, ah_t_w, ah_m_w, ah_n_w, lst1_0, List.tail_cons, w32_i, zbd, lst2_0, xt_1a hK1, xf_1_18 hK1, xt_118a hK1, xt_118b hK1, c_98 hK1, g, is_1 gw, c_81 hK1, eq_true gn]
        refine c_131 (d := d + 12) hK1 hT1 hv (Or.inl rfl) tR (by omega) (by omega) (fun h2 e hO2 => ?_) (fun h2 e hO2 eg => ?_)
        · simp (disch := omega) only [b_130_0, ↓w_iconst, ↓w_aload_n_0, ↓w_iload_n_1, ↓w_iload_n_2, ↓w_istore_n_2, ↓w_imul, ↓w_getfield, ↓w_nop, ↓w_ifCond_eq, ↓w_ifCond_ne, ↓w_if_icmp_ne, ↓w_invokevirtual_0, ↓w_invokevirtual_2, ↓w_invokestatic_3, stw_0, stw_i, stw_l, stw_r, ofK0, ofK1, ofK2, lst1, lst2, lkill, kont_none, kont_some, Int.reduceToNat, List.length_cons, List.length_nil, Nat.reduceAdd, Nat.reduceLeDiff, Nat.zero_le, true_and, and_true, if_true, if_false, ne_eq, Int.reduceEq, Int.reduceNeg, not_false_eq_true, not_true_eq_false, ↓reduceIte, Int.reduceLT, Int.reduceLE, and_self, or_true, true_or, or_false, false_or, false_and, and_false, ah_t_w, ah_m_w, ah_n_w, lst1_0, List.tail_cons, w32_i, zbd, lst2_0]
          exact bad (by rw [ez, e]) h2 _ hO2
        · have hO2' : Off (fun r i => r = 118 ∨ (r = 1 ∧ i = 2) ∨ (r = 17 ∧ i = 1)) h h2 := Off_tr hO1 (Off_mono (fun r i w => Or.inl w) hO2)
          have hA2 := XAo hO2'
          have hK2 := hA2.1
          have tS := sz_t hK2 is70
          simp (disch := omega) only [b_130_0, q_130_49, b_130_49, ↓w_iconst, ↓w_aload_n_0, ↓w_iload_n_1, ↓w_iload_n_2, ↓w_istore_n_2, ↓w_pop_i, ↓w_pop_a, ↓w_imul, ↓w_getfield, ↓w_nop, ↓w_ifCond_eq, ↓w_ifCond_ne, ↓w_if_icmp_ne, ↓w_ireturn0, ↓w_invokevirtual_0, ↓w_invokevirtual_1, ↓w_invokevirtual_2, ↓w_invokestatic_3, stw_0, stw_i, stw_l, stw_r, ofK0, ofK1, ofK2, lst1, lst2, lkill, kont_none, kont_some, Int.reduceToNat, List.length_cons, List.length_nil, Nat.reduceAdd, Nat.reduceLeDiff, Nat.zero_le, true_and, and_true, if_true, if_false, ne_eq, Int.reduceEq, Int.reduceNeg, not_false_eq_true, not_true_eq_false, ↓reduceIte, Int.reduceLT, Int.reduceLE, and_self, or_true, true_or, or_false, false_or, false_and, and_false, ah_t_w, ah_m_w, ah_n_w, lst1_0, List.tail_cons, w32_i, zbd, lst2_0, xt_1a hK2, xf_1_12 hK2, xf_1_13 hK2, xf_1_18 hK2, xt_118a hK2, xt_118b hK2, tS]
          refine cpy (d := d + 14) hA2 hF (fun h3 hA3 hS3 hO3 => ?_)
          have hg3 : ∀ m, 0 ≤ m → m < T 1072 4 → ah_m h3 118 m = zplf tp 0 m := fun m a b => by rw [hO3.2 _ _ (by unfold Wcp; omega)]; exact eg m a b
          have u1 := xt_1a hA3.1
          simp (disch := omega) only [b_130_49, ↓w_aload_n_0, ↓w_iload_n_1, ↓w_pop_i, ↓w_pop_a, ↓w_getfield, ↓w_ireturn0, ↓w_invokevirtual_1, stw_0, stw_i, stw_l, stw_r, ofK0, ofK1, ofK2, lst1, lst2, lkill, kont_none, kont_some, Int.reduceToNat, List.length_cons, List.length_nil, Nat.reduceAdd, Nat.reduceLeDiff, Nat.zero_le, true_and, and_true, if_true, if_false, ne_eq, Int.reduceEq, Int.reduceNeg, not_false_eq_true, not_true_eq_false, ↓reduceIte, Int.reduceLT, Int.reduceLE, and_self, or_true, true_or, or_false, false_or, false_and, and_false, ah_t_w, ah_m_w, ah_n_w, lst1_0, List.tail_cons, w32_i, zbd, lst2_0, u1]
          have hok := zam_ok (tp := tp) (fr := 0) (T := T) (zn T) 0 (by omega) e
          have hb : ∀ nw, NV T nw → ∀ m, 0 ≤ m → m < T 1072 4 → (zpl5 nw m = zplf tp 0 m ↔ (nw (2 + 2 * m) = zgl tp (2 * m) ∧ nw (3 + 2 * m) = zgl tp (2 * m + 1))) := by
            intro nw hN m m0 m1
            have h9 := hok m m0 (by unfold zn; omega)
            rw [Int.zero_add] at h9
            have b1 := hv.2 (2 * m) (by omega) (by omega)
            have b2 := hv.2 (2 * m + 1) (by omega) (by omega)
            exact zeq_place hN hC.2 hR5.2 m0 m1 (by omega) (by rcases h9 with q | q; exact Or.inl q; exact Or.inr ⟨q.1, q.2.1⟩)
          have hW0 := WAY_0 (T := T) (tp := tp) hb
          obtain ⟨u, hu⟩ : ∃ u : Nat, w = u := ⟨w.toNat, by omega⟩
          have hWu : WAY T tp u := by
            have : u = 0 ∨ u = 1 ∨ u = 2 ∨ u = 3 := by omega
            rcases this with q | q | q | q <;> subst q
            · exact hW0
            · exact WAY_s hW0 (by omega)
            · exact WAY_s (WAY_s hW0 (by omega)) (by omega)
            · exact WAY_s (WAY_s (WAY_s hW0 (by omega)) (by omega)) (by omega)
          have hu3 : u ≤ 3 := by omega
          rw [hu] at hQ1 ez ⊢
          rw [Int.toNat_natCast] at hQ1
          refine wpC_deep (hWu d nw h3 _ hA3.1 hS3 hX h40 hg3 (fun h4 hK4 hS4 hO4 => ?_)) (by omega)
          simp (disch := omega) only [b_130_49, ↓w_aload_n_0, ↓w_iload_n_1, ↓w_pop_i, ↓w_pop_a, ↓w_getfield, ↓w_ireturn0, ↓w_invokevirtual_1, stw_0, stw_i, stw_l, stw_r, ofK0, ofK1, ofK2, lst1, lst2, lkill, kont_none, kont_some, Int.reduceToNat, List.length_cons, List.length_nil, Nat.reduceAdd, Nat.reduceLeDiff, Nat.zero_le, true_and, and_true, if_true, if_false, ne_eq, Int.reduceEq, Int.reduceNeg, not_false_eq_true, not_true_eq_false, ↓reduceIte, Int.reduceLT, Int.reduceLE, and_self, or_true, true_or, or_false, false_or, false_and, and_false, ah_t_w, ah_m_w, ah_n_w, lst1_0, List.tail_cons, w32_i, zbd, lst2_0]
          have hO4' : Off Wth h3 h4 := Off_mono (fun r i w => Wth_be r i (Or.inl (Wva_le (by omega) r i w))) hO4
          have hA4 := XA_th hA3 h40 hO4' hS4.2.2.2.2.2.2
          have h17 : Off (fun r i => Wth r i ∨ (r = 1 ∧ i = 2)) h g1 := by rw [← hg1]; exact Off_w Off_rfl (Or.inr ⟨rfl, rfl⟩)
          refine hQ1 h4 (by rw [ez, e]) hA4 (Off_tr h17 (Off_tr (Off_mono (fun r i w => Or.inl ⟨by omega, by unfold fix isS isV; omega⟩) hO2) (Off_mono (fun r i w => Or.inl w) (Off_tr (Off_mono Wth_cp hO3) hO4')))) ?_
          rw [hO4'.2 _ _ (fun w => by have := w.1; omega), hO3.2 _ _ (by unfold Wcp; omega), hO2.2 _ _ (by omega)]; exact e12
      · have ez : zrch T nw tp (T 1074 4) n w = false := by unfold zrch; rw [decide_eq_false (fun q => gn q.2.2), Bool.false_and]
        simp (disch := omega) only [b_130_0, ↓w_iconst, ↓w_aload_n_0, ↓w_iload_n_1, ↓w_iload_n_2, ↓w_istore_n_2, ↓w_imul, ↓w_getfield, ↓w_nop, ↓w_ifCond_eq, ↓w_ifCond_ne, ↓w_if_icmp_ne, ↓w_invokevirtual_0, ↓w_invokevirtual_2, ↓w_invokestatic_3, stw_0, stw_i, stw_l, stw_r, ofK0, ofK1, ofK2, lst1, lst2, lkill, kont_none, kont_some, Int.reduceToNat, List.length_cons, List.length_nil, Nat.reduceAdd, Nat.reduceLeDiff, Nat.zero_le, true_and, and_true, if_true, if_false, ne_eq, Int.reduceEq, Int.reduceNeg, not_false_eq_true, not_true_eq_false, ↓reduceIte, Int.reduceLT, Int.reduceLE, and_self, or_true, true_or, or_false, false_or, false_and, and_false, ah_t_w, ah_m_w, ah_n_w, lst1_0, List.tail_cons, w32_i, zbd, lst2_0, xt_1a hK1, xf_1_18 hK1, xt_118a hK1, xt_118b hK1, c_98 hK1, g, is_1 gw, c_81 hK1, gn]
        exact bad ez g1 _ Off_rfl
    · have ez : zrch T nw tp (T 1074 4) n w = false := by unfold zrch; rw [decide_eq_false (fun q => gw q.2.1), Bool.false_and]
      simp (disch := omega) only [b_130_0, ↓w_iconst, ↓w_aload_n_0, ↓w_iload_n_1, ↓w_iload_n_2, ↓w_istore_n_2, ↓w_imul, ↓w_getfield, ↓w_nop, ↓w_ifCond_eq, ↓w_ifCond_ne, ↓w_if_icmp_ne, ↓w_invokevirtual_0, ↓w_invokevirtual_2, ↓w_invokestatic_3, stw_0, stw_i, stw_l, stw_r, ofK0, ofK1, ofK2, lst1, lst2, lkill, kont_none, kont_some, Int.reduceToNat, List.length_cons, List.length_nil, Nat.reduceAdd, Nat.reduceLeDiff, Nat.zero_le, true_and, and_true, if_true, if_false, ne_eq, Int.reduceEq, Int.reduceNeg, not_false_eq_true, not_true_eq_false, ↓reduceIte, Int.reduceLT, Int.reduceLE, and_self, or_true, true_or, or_false, false_or, false_and, and_false, ah_t_w, ah_m_w, ah_n_w, lst1_0, List.tail_cons, w32_i, zbd, lst2_0, xt_1a hK1, xf_1_18 hK1, xt_118a hK1, xt_118b hK1, c_98 hK1, g, is_0 gw]
      exact bad ez g1 _ Off_rfl
  · have ez : zrch T nw tp (T 1074 4) n w = false := by unfold zrch; rw [decide_eq_false (fun q => by have := q.1; omega), Bool.false_and]
    simp (disch := omega) only [b_130_0, ↓w_iconst, ↓w_aload_n_0, ↓w_iload_n_1, ↓w_iload_n_2, ↓w_istore_n_2, ↓w_imul, ↓w_getfield, ↓w_nop, ↓w_ifCond_eq, ↓w_ifCond_ne, ↓w_if_icmp_ne, ↓w_invokevirtual_0, ↓w_invokevirtual_2, ↓w_invokestatic_3, stw_0, stw_i, stw_l, stw_r, ofK0, ofK1, ofK2, lst1, lst2, lkill, kont_none, kont_some, Int.reduceToNat, List.length_cons, List.length_nil, Nat.reduceAdd, Nat.reduceLeDiff, Nat.zero_le, true_and, and_true, if_true, if_false, ne_eq, Int.reduceEq, Int.reduceNeg, not_false_eq_true, not_true_eq_false, ↓reduceIte, Int.reduceLT, Int.reduceLE, and_self, or_true, true_or, or_false, false_or, false_and, and_false, ah_t_w, ah_m_w, ah_n_w, lst1_0, List.tail_cons, w32_i, zbd, lst2_0, xt_1a hK1, xf_1_18 hK1, xt_118a hK1, xt_118b hK1, c_98 hK1, g]
    exact bad ez g1 _ Off_rfl
end A1
