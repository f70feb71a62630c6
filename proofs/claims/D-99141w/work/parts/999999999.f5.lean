/-! ===== X: ask ===== -/
section F5
variable {W' W : Int → Int → Prop} {d : Nat} {h h' h1 h2 h0 : AH} {Q : QQ} {x y z k s b v n p q r o i N lo hi A B E kd mt rs V m f : Int} {a : Int × Bool} {S T T' : Int → Int → Int} {t nw nw' pt of tp : Int → Int} {tl : ALoc} {w u l cs c c1 c2 : List Int} {hm : Bool} {D : Nat} {its : List (List Int)}
set_option maxHeartbeats 4000000
theorem QSi_b (hq : QSi h p kd c) : -1000000 ≤ ztop (zrun pt of c []) ∧ ztop (zrun pt of c []) ≤ 1000000 := by
  obtain ⟨a1, a2, a3, a4, i, j, a5, a6⟩ := hq
  rcases a6 with q | q
  · have := ztop_01 (pt := pt) (of := of) q.2.2.2.1; omega
  · exact ztop_b q.2.2.2.1
theorem l_141 {hs : AH} {l1 : Option AV} (hA0 : XA T nw h0) (hF : FRE h0) (hN : NV T nw) (h40 : nw 24 ≤ 40) (hq0 : ah_n h0 ≤ q) :
    ∀ (j : Nat) (m mt rs : Int) (a : Int × Bool) (h : AH), 0 ≤ m → m + j = T 1072 4 → Ext Wak h0 h → ah_n h = ah_n hs → ah_s h = ah_s hs → (∀ i, i ≠ 22 → ah_m h 1 i = ah_m hs 1 i) → ah_m h 1 22 = m → QSi h q kd c → ah_m h q 3 = rs → ah_m h q 4 = mt → QRl kd mt rs a → (-1000000 - 1000000 * m ≤ a.1 ∧ a.1 ≤ 1000000 + 1000000 * m) →
    (∀ h', Ext Wak h0 h' → ah_n h' = ah_n hs → ah_s h' = ah_s hs → (∀ i, i ≠ 22 → ah_m h' 1 i = ah_m hs 1 i) → Q (.inl (some (.inr (.inl (zqg T nw kd c j m a).1)))) h') → wpB (d + 50) 141 64 [some (.inr (.inr 1)), l1, some (.inr (.inr q))] [] h Q := by
  intro j
  induction j with
  | zero =>
    intro m mt rs a h m0 mj hE n1 s1 ke e22 hq q3 q4 hr hb hQ
    have hA := XA_ext hA0 hF h40 hE Wak_x
    have hK := hA.1
    have hS := hA.2.1
    have nlt : ¬ m < T 1072 4 := by omega
    have tq : (ah_t h q).1 = 20 := by rw [hq.1]
    simp (disch := omega) only [q_141_64, b_141_64, q_141_287, b_141_287, ↓w_iconst, ↓w_aload_n_0, ↓w_aload_n_2, ↓w_getfield, ↓w_iaload, ↓w_goto, ↓w_if_icmp_ne, ↓w_if_icmp_ge, ↓w_lreturn, ↓w_invokevirtual_0, stw_0, stw_i, stw_l, stw_r, ofK0, ofK1, ofK2, lst1, lst2, lkill, kont_none, kont_some, Int.reduceToNat, List.length_cons, List.length_nil, Nat.reduceAdd, Nat.reduceLeDiff, Nat.zero_le, true_and, and_true, if_true, if_false, ne_eq, Int.reduceEq, Int.reduceNeg, not_false_eq_true, not_true_eq_false, ↓reduceIte, Int.reduceLT, Int.reduceLE, and_self, or_true, true_or, or_false, false_or, false_and, and_false, ah_t_w, ah_m_w, ah_n_w, lst1_0, List.tail_cons, w32_i, zbd, lst2_0, xt_1a hK, xf_1_12 hK, s_t hK hS, s_3 hK hS, s_3a hK hS, s_3b hK hS, e22, c_81 hK, nlt, tq, c_168 hq.1 hq.2.2.1 q4 q3 hr]
    exact hQ h hE n1 s1 ke
  | succ j ih =>
    intro m mt rs a h m0 mj hE n1 s1 ke e22 hq q3 q4 hr hb hQ
    have n0 := hF.1
    have hA := XA_ext hA0 hF h40 hE Wak_x
    have hK := hA.1
    have hS := hA.2.1
    have h8 := hK.2.2.2.1
    have lt : m < T 1072 4 := by omega
    have m8 : m < 8 := by omega
    have ep : ah_m h 26 m = zpl5 nw m := sp hS m0 lt
    have t26a : (ah_t h 26).1 = -1 := s_3a hK hS
    have t26b : (ah_t h 26).2 = 8 := s_3b hK hS
    have hC := hK.2.2.2.2.2.1; have hR := hK.2.2.2.2.2.2.1
    have hbp := zpl5_b hN hC.2 hR.2 m0 lt
    simp only [zqg] at hQ
    -- on to the next
    have nxt : ∀ (h1 : AH) mt' rs' (a' : Int × Bool), Ext Wak h0 h1 → ah_n h1 = ah_n hs → ah_s h1 = ah_s hs → (∀ i, i ≠ 22 → ah_m h1 1 i = ah_m hs 1 i) → ah_m h1 1 22 = m → QSi h1 q kd c → ah_m h1 q 3 = rs' → ah_m h1 q 4 = mt' → QRl kd mt' rs' a' → (-1000000 - 1000000 * (m + 1) ≤ a'.1 ∧ a'.1 ≤ 1000000 + 1000000 * (m + 1)) → (∀ h', Ext Wak h0 h' → ah_n h' = ah_n hs → ah_s h' = ah_s hs → (∀ i, i ≠ 22 → ah_m h' 1 i = ah_m hs 1 i) → Q (.inl (some (.inr (.inl (zqg T nw kd c j (m + 1) a').1)))) h') → wpB (d + 50) 141 274 [some (.inr (.inr 1)), l1, some (.inr (.inr q))] [] h1 Q := by
      intro h1 mt' rs' a' hE1 n1' s1' ke1 e1 hq1 q31 q41 hr1 hb1 hQ1
      have hA1 := XA_ext hA0 hF h40 hE1 Wak_x
      have hK1 := hA1.1
      have hS1 := hA1.2.1
      have hq1121 := hq1.2.1
      have hO : Off (fun r i => r = 1 ∧ i = 22) h1 (ah_w h1 1 22 (m + 1)) := Off_w Off_rfl ⟨rfl, rfl⟩
      simp (disch := omega) only [q_141_274, b_141_274, ↓w_iconst, ↓w_aload_n_0, ↓w_dup_i, ↓w_dup_a, ↓w_iadd, ↓w_getfield, ↓w_putfield_0, ↓w_goto, stw_0, stw_i, stw_l, stw_r, ofK0, ofK1, ofK2, lst1, lst2, lkill, kont_none, kont_some, Int.reduceToNat, List.length_cons, List.length_nil, Nat.reduceAdd, Nat.reduceLeDiff, Nat.zero_le, true_and, and_true, if_true, if_false, ne_eq, Int.reduceEq, Int.reduceNeg, not_false_eq_true, not_true_eq_false, ↓reduceIte, Int.reduceLT, Int.reduceLE, and_self, or_true, true_or, or_false, false_or, false_and, and_false, ah_t_w, ah_m_w, ah_n_w, lst1_0, List.tail_cons, w32_i, zbd, lst2_0, xt_1a hK1, e1]
      exact ih (m + 1) mt' rs' a' _ (by omega) (by omega) (Ext_w hE1 (Or.inl (by unfold Wak; omega))) n1' s1' (fun i i22 => by rw [ah_m_w, if_neg (by omega)]; exact ke1 i i22) (by rw [ah_m_w, if_pos ⟨rfl, rfl⟩]) (QSi_off hq1 hO (fun r i w => Or.inl (by omega))) (by rw [ah_m_w, if_neg (by omega)]; exact q31) (by rw [ah_m_w, if_neg (by omega)]; exact q41) hr1 hb1 hQ1
    rw [q_141_64]
    rcases hbp with qq | qq
    · have z1 := qq.1
      rw [if_pos qq.2] at hQ
      simp (disch := omega) only [b_141_64, ↓w_iconst, ↓w_aload_n_0, ↓w_getfield, ↓w_iaload, ↓w_goto, ↓w_if_icmp_ne, ↓w_if_icmp_ge, ↓w_invokevirtual_0, stw_0, stw_i, stw_l, stw_r, ofK0, ofK1, ofK2, lst1, lst2, lkill, kont_none, kont_some, Int.reduceToNat, List.length_cons, List.length_nil, Nat.reduceAdd, Nat.reduceLeDiff, Nat.zero_le, true_and, and_true, if_true, if_false, ne_eq, Int.reduceEq, Int.reduceNeg, not_false_eq_true, not_true_eq_false, ↓reduceIte, Int.reduceLT, Int.reduceLE, and_self, or_true, true_or, or_false, false_or, false_and, and_false, ah_t_w, ah_m_w, ah_n_w, lst1_0, List.tail_cons, w32_i, zbd, lst2_0, xt_1a hK, xf_1_12 hK, s_t hK hS, s_3 hK hS, s_3a hK hS, s_3b hK hS, e22, c_81 hK, eq_true lt, ep, t26a, t26b, m0, m8, z1, Int.reduceAdd]
      exact nxt h mt rs a hE n1 s1 ke e22 hq q3 q4 hr (by omega) hQ
    · have z1 : ¬ zpl5 nw m = -1 := by omega
      rw [if_neg qq.2.2.2] at hQ
      simp (disch := omega) only [b_141_64, ↓w_iconst, ↓w_aload_n_0, ↓w_getfield, ↓w_iaload, ↓w_goto, ↓w_if_icmp_ne, ↓w_if_icmp_ge, ↓w_invokevirtual_0, stw_0, stw_i, stw_l, stw_r, ofK0, ofK1, ofK2, lst1, lst2, lkill, kont_none, kont_some, Int.reduceToNat, List.length_cons, List.length_nil, Nat.reduceAdd, Nat.reduceLeDiff, Nat.zero_le, true_and, and_true, if_true, if_false, ne_eq, Int.reduceEq, Int.reduceNeg, not_false_eq_true, not_true_eq_false, ↓reduceIte, Int.reduceLT, Int.reduceLE, and_self, or_true, true_or, or_false, false_or, false_and, and_false, ah_t_w, ah_m_w, ah_n_w, lst1_0, List.tail_cons, w32_i, zbd, lst2_0, xt_1a hK, xf_1_12 hK, s_t hK hS, s_3 hK hS, s_3a hK hS, s_3b hK hS, e22, c_81 hK, eq_true lt, ep, t26a, t26b, m0, m8, z1, Int.reduceAdd]
      have vb : -1000000 ≤ zqv T nw c m ∧ zqv T nw c m ≤ 1000000 := QSi_b hq
      have fb := zqf_b (kd := kd) (i := m) (B := 1000000 * m) (q := a) vb (by omega) (by omega) (by omega)
      refine c_141a hA0 hF hN h40 hE e22 ⟨m0, lt⟩ qq.2.2.2 hq hq0 q4 q3 hr (by omega) (fun h' mt' rs' hE' n' s' e' hq' q3' q4' hr' => ?_)
      exact nxt h' mt' rs' _ hE' (by omega) (by omega) (fun i i22 => by rw [e']; exact ke i i22) ((e' 22).trans e22) hq' q3' q4' hr' (by omega) hQ
/-- ask -/
theorem c_141 (hA : XA T nw h) (hF : FRE h) (hc : CON h) (hN : NV T nw) (h40 : nw 24 ≤ 40) (hT : XTp t n h) (en : ah_m h 1 2 = n) (hv : TPV t n)
    (hQz : ¬ 0 < T 1074 4 → Q (.inl (some (.inr (.inl (-1000000000000000))))) (ah_w h 1 2 0))
    (hQ0 : ∀ h' a b, 0 < T 1074 4 → zqs t n = .inl (a, b) → Ext Wak h h' → ah_m h' 1 2 = 0 → ah_m h' 1 3 = a → ah_m h' 1 4 = b → CO h h' (63 * n + 100) (4204 * n + 8000) → Q (.inl (some (.inr (.inl (-1000000000000000))))) h')
    (hQ1 : ∀ h' kd c, 0 < T 1074 4 → zqs t n = .inr (kd, c) → Ext Wak h h' → ah_m h' 1 2 = 0 → ah_m h' 1 3 = 0 → ah_m h' 1 4 = -1 → CO h h' (63 * n + 100) (4204 * n + 8000) → Q (.inl (some (.inr (.inl (zqans T nw kd c))))) h') : wpC (d + 61) 141 [.inr (.inr 1)] h Q := by
  have n0 := hF.1
  have hK := hA.1
  have hS := hA.2.1
  have nv := hv.1
  rw [wpC_B]; refine ⟨⟨Nat.zero_lt_succ _, Nat.le_of_ble_eq_true rfl⟩, ?_⟩; simp only [lent]
  have hO1 : Off Wak h (ah_w h 1 2 0) := Off_w Off_rfl (by unfold Wak; omega)
  have hA1 := XA_ext hA hF h40 (Ext_off hO1) Wak_x
  have hK1 := hA1.1
  have hS1 := hA1.2.1
  by_cases g : 0 < T 1074 4
  · have c98 := c_98 (d := d + 59) (Q := Q) hK1
    generalize hg2 : ah_w (ah_w (ah_w h 1 2 0) 1 3 0) 1 4 (-1) = h2
    have hO2 : Off Wak h h2 := by rw [← hg2]; exact Off_w (Off_w (Off_w Off_rfl (by unfold Wak; omega)) (by unfold Wak; omega)) (by unfold Wak; omega)
    have hE2 : Ext Wak h h2 := Ext_off hO2
    have hA2 := XA_ext hA hF h40 hE2 Wak_x
    have hF2 := FRE_ext hF hE2
    have hc2 : CON h2 := CON_ext hc hF hE2 (fun r i w => by unfold Wak Wqs Wrd at w; omega)
    have hI2 : RXI h2 := ⟨hA2.1.1, hF2, hc2⟩
    have hT2 : XTp t n h2 := XTp_ext hT hF hE2 (fun r i w => by unfold Wak Wqs Wrd at w; omega)
    have e2 : ah_m h2 1 2 = 0 := by rw [← hg2, ah_m_w, if_neg (by omega), ah_m_w, if_neg (by omega), ah_m_w, if_pos ⟨rfl, rfl⟩]
    have e3 : ah_m h2 1 3 = 0 := by rw [← hg2, ah_m_w, if_neg (by omega), ah_m_w, if_pos ⟨rfl, rfl⟩]
    have e4 : ah_m h2 1 4 = -1 := by rw [← hg2, ah_m_w, if_pos ⟨rfl, rfl⟩]
    have n2 := Off_n hO2
    have s2 := Off_s hO2
    have t11 : (ah_t h 11).1 = 4 := congrArg Prod.fst (hA.1.1.1 (11, 4, 0) (by decide))
    have x5 := xf_1_5 hK
    simp (disch := omega) only [q_141_0, b_141_0, q_141_16, b_141_16, ↓w_iconst, ↓w_ldc2_w, ↓w_aload_n_0, ↓w_iload_n_1, ↓w_istore_n_1, ↓w_astore_n_2, ↓w_getfield, ↓w_putfield_0, ↓w_goto, ↓w_ifCond_ne, ↓w_lreturn, ↓w_invokevirtual_0, ↓w_invokevirtual_1, stw_0, stw_i, stw_l, stw_r, ofK0, ofK1, ofK2, lst1, lst2, lkill, kont_none, kont_some, Int.reduceToNat, List.length_cons, List.length_nil, Nat.reduceAdd, Nat.reduceLeDiff, Nat.zero_le, true_and, and_true, if_true, if_false, ne_eq, Int.reduceEq, Int.reduceNeg, not_false_eq_true, not_true_eq_false, ↓reduceIte, Int.reduceLT, Int.reduceLE, and_self, or_true, true_or, or_false, false_or, false_and, and_false, ah_t_w, ah_m_w, ah_n_w, lst1_0, List.tail_cons, w32_i, zbd, lst2_0, xt_1a hK, xf_1_5 hK, xt_11a hK, c_89 hK, c_98 hK1, g, en, x5, t11, hg2]
    rw [xf_1_5 hA2.1]
    refine ⟨r_1 hI2, r_11 hI2, ?_⟩
    refine c_195 (d := d) hI2 hT2 hv (fun h3 k' a b ez hR3 hE3 hb co => ?_) (fun h3 q k' kd c ez hR3 hE3 hq0 hq q3 q4 co => ?_)
    · rw [kont_thr, if_neg (by decide), if_neg (by decide)]
      have wq : ∀ r i, Wqs r i → Wak r i := fun r i w => Or.inl w
      have hE3' : Ext Wak h h3 := Ext_tr hE2 (Ext_mono wq hE3)
      have t12 := r_12 hR3.1
      have t1 := r_1 hR3.1
      have b6 := hb.1
      have b7 := hb.2
      have e23 : ah_m h3 1 2 = 0 := by rw [hE3.2.2 _ _ (by omega) (by unfold Wqs Wrd; omega)]; exact e2
      simp (disch := omega) only [q_141_38, b_141_38, ↓w_ldc2_w, ↓w_aload_n_0, ↓w_aload_n_3, ↓w_astore_n_3, ↓w_getfield, ↓w_putfield_0, ↓w_lreturn, stw_0, stw_i, stw_l, stw_r, ofK0, ofK1, ofK2, lst1, lst2, lkill, kont_none, kont_some, Int.reduceToNat, List.length_cons, List.length_nil, Nat.reduceAdd, Nat.reduceLeDiff, Nat.zero_le, true_and, and_true, if_true, if_false, ne_eq, Int.reduceEq, Int.reduceNeg, not_false_eq_true, not_true_eq_false, ↓reduceIte, Int.reduceLT, Int.reduceLE, and_self, or_true, true_or, or_false, false_or, false_and, and_false, ah_t_w, ah_m_w, ah_n_w, lst1_0, List.tail_cons, w32_i, zbd, lst2_0, t12, t1, b6, b7]
      refine hQ0 _ a b g ez (Ext_w (Ext_w hE3' (Or.inl (by unfold Wak; omega))) (Or.inl (by unfold Wak; omega))) (by rw [ah_m_w, if_neg (by omega), ah_m_w, if_neg (by omega)]; exact e23) (by rw [ah_m_w, if_neg (by omega), ah_m_w, if_pos ⟨rfl, rfl⟩]) (by rw [ah_m_w, if_pos ⟨rfl, rfl⟩]) ?_
      unfold CO at co ⊢; show ah_n h3 ≤ _ ∧ ah_s h3 ≤ _; omega
    · have wq : ∀ r i, Wqs r i → Wak r i := fun r i w => Or.inl w
      have hE3' : Ext Wak h h3 := Ext_tr hE2 (Ext_mono wq hE3)
      have t1 := r_1 hR3.1
      have k1 : ∀ i, ah_m h3 1 i = ah_m h2 1 i := fun i => hE3.2.2 _ _ (by omega) (by unfold Wqs Wrd; omega)
      have hqb := hq.2.1
      simp (disch := omega) only [b_141_16, q_141_59, b_141_59, ↓w_iconst, ↓w_aload_n_0, ↓w_iload_n_1, ↓w_astore_n_2, ↓w_getfield, ↓w_putfield_0, ↓w_nop, ↓w_goto, ↓w_invokevirtual_1, stw_0, stw_i, stw_l, stw_r, ofK0, ofK1, ofK2, lst1, lst2, lkill, kont_none, kont_some, Int.reduceToNat, List.length_cons, List.length_nil, Nat.reduceAdd, Nat.reduceLeDiff, Nat.zero_le, true_and, and_true, if_true, if_false, ne_eq, Int.reduceEq, Int.reduceNeg, not_false_eq_true, not_true_eq_false, ↓reduceIte, Int.reduceLT, Int.reduceLE, and_self, or_true, true_or, or_false, false_or, false_and, and_false, ah_t_w, ah_m_w, ah_n_w, lst1_0, List.tail_cons, w32_i, zbd, lst2_0, t1]
      have h8 := hK.2.2.2.1
      refine l_141 (d := d + 10) (h0 := h) (hs := h3) (q := q) (kd := kd) (c := c) hA hF hN h40 (by omega) (zn T) 0 0 (-1) (if kd < 2 then -1 else 0, true) _ (by omega) (by unfold zn; omega) (Ext_w hE3' (Or.inl (by unfold Wak; omega))) rfl rfl (fun i i22 => by rw [ah_m_w, if_neg (by omega)]) (by rw [ah_m_w, if_pos ⟨rfl, rfl⟩]) (QSi_off hq (Off_w (W := fun r i => r = 1) Off_rfl rfl) (fun r i w => Or.inl (by omega))) (by rw [ah_m_w, if_neg (by omega)]; exact q3) (by rw [ah_m_w, if_neg (by omega)]; exact q4) ⟨Or.inl rfl, fun _ => ⟨rfl, rfl, fun _ => rfl⟩, fun z => absurd z (by decide)⟩ (by split <;> simp) (fun h4 hE4 n4 s4 k4 => ?_)
      refine hQ1 h4 kd c g ez hE4 (by rw [k4 2 (by decide), k1]; exact e2) (by rw [k4 3 (by decide), k1]; exact e3) (by rw [k4 4 (by decide), k1]; exact e4) ?_
      unfold CO at co ⊢; omega
  · simp (disch := omega) only [q_141_0, b_141_0, ↓w_ldc2_w, ↓w_aload_n_0, ↓w_istore_n_1, ↓w_ifCond_ne, ↓w_lreturn, ↓w_invokevirtual_0, stw_0, stw_i, stw_l, stw_r, ofK0, ofK1, ofK2, lst1, lst2, lkill, kont_none, kont_some, Int.reduceToNat, List.length_cons, List.length_nil, Nat.reduceAdd, Nat.reduceLeDiff, Nat.zero_le, true_and, and_true, if_true, if_false, ne_eq, Int.reduceEq, Int.reduceNeg, not_false_eq_true, not_true_eq_false, ↓reduceIte, Int.reduceLT, Int.reduceLE, and_self, or_true, true_or, or_false, false_or, false_and, and_false, ah_t_w, ah_m_w, ah_n_w, lst1_0, List.tail_cons, w32_i, zbd, lst2_0, xt_1a hK, c_89 hK, c_98 hK1, g, en]
    exact hQz g
end F5
