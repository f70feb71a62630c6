/-! ===== X: forced ===== -/
def zcx (T : Int → Int → Int) (nw : Int → Int) (q : Int × Int) : Bool := decide (zat T nw (q.2 % T 1074 4) (q.2 / T 1074 4) ≠ -1 ∧ zcw T (zat T nw (q.2 % T 1074 4) (q.2 / T 1074 4)) = 1)
def Wff (r i : Int) : Prop := WSs 70 r i ∨ Wmv 1026 r i
def Wfb (r i : Int) : Prop := Wcp 70 r i ∨ Wff r i ∨ Wmv 19 r i ∨ Wmv 1023 r i
section Z4
variable {W : Int → Int → Prop} {d : Nat} {h h' h1 h0 : AH} {Q : QQ} {x y z m k s l w a b v n p r o i f D0 D1 : Int} {S T T' : Int → Int → Int} {t nw nw' pt of : Int → Int} {tl : ALoc} {c : Int × Int × Int}
set_option maxHeartbeats 4000000
theorem zmk_in : ∀ (j : Nat) (a : Int), zG T nw m k = true → a ≤ k → k < a + j → (m, k) ∈ zmk T nw m j a := by
  intro j
  induction j with
  | zero => intro a _ h1 h2; omega
  | succ j ih =>
    intro a hg h1 h2
    simp only [zmk]
    by_cases e : a = k
    · rw [e, if_pos hg]; exact List.mem_cons_self
    · split
      · exact List.mem_cons_of_mem _ (ih (a + 1) hg (by omega) (by omega))
      · exact ih (a + 1) hg (by omega) (by omega)
theorem zmm_in : ∀ (j : Nat) (a : Int), zs T m = s → zG T nw m k = true → 0 ≤ k → k < zP T → a ≤ m → m < a + j → (m, k) ∈ zmm T nw s j a := by
  intro j
  induction j with
  | zero => intro a _ _ _ _ h1 h2; omega
  | succ j ih =>
    intro a hs hg k0 k1 h1 h2
    simp only [zmm]
    by_cases e : a = m
    · rw [e, if_pos hs]; exact List.mem_append_left _ (zmk_in _ _ hg (by omega) (by omega))
    · exact List.mem_append_right _ (ih (a + 1) hs hg k0 k1 (by omega) (by omega))
theorem zmv_in (hT : TV T) (hs : zs T m = nw 1) (hg : zG T nw m k = true) (m0 : 0 ≤ m) (m1 : m < T 1072 4) (k0 : 0 ≤ k) (k1 : k < zP T) : (m, k) ∈ zmv T nw := zmm_in _ _ hs hg k0 k1 m0 (by have := hT.2.1; unfold zn; omega)
theorem zc1_iff : ∀ (j : Nat) (a : Int), zc1 T nw s k j a = true ↔ ∃ m, a ≤ m ∧ m < a + j ∧ zs T m ≠ s ∧ zG T nw m k = true := by
  intro j
  induction j with
  | zero => intro a; simp only [zc1]; constructor; intro q; cases q; rintro ⟨m, h1, h2, _⟩; omega
  | succ j ih =>
    intro a
    simp only [zc1]
    by_cases e : zs T a ≠ s ∧ zG T nw a k = true
    · rw [if_pos e]; exact ⟨fun _ => ⟨a, by omega, by omega, e⟩, fun _ => rfl⟩
    · rw [if_neg e, ih]
      constructor
      · rintro ⟨m, h1, h2, h3⟩; exact ⟨m, by omega, by omega, h3⟩
      · rintro ⟨m, h1, h2, h3⟩
        by_cases q : m = a
        · rw [q] at h3; exact absurd h3 e
        · exact ⟨m, by omega, by omega, h3⟩
theorem zc2_iff : ∀ (j : Nat) (a : Int), zc2 T nw s j a = true ↔ ∃ c, a ≤ c ∧ c < a + j ∧ (zcw T c = 1 ∧ zs T c = s ∧ nw (2 + 2 * c) ≠ -1 ∧ zc1 T nw s (nw (2 + 2 * c) + T 1074 4 * nw (3 + 2 * c)) (zn T) 0 = true) := by
  intro j
  induction j with
  | zero => intro a; simp only [zc2]; constructor; intro q; cases q; rintro ⟨m, h1, h2, _⟩; omega
  | succ j ih =>
    intro a
    simp only [zc2]
    by_cases e : zcw T a = 1 ∧ zs T a = s ∧ nw (2 + 2 * a) ≠ -1 ∧ zc1 T nw s (nw (2 + 2 * a) + T 1074 4 * nw (3 + 2 * a)) (zn T) 0 = true
    · rw [if_pos e]; exact ⟨fun _ => ⟨a, by omega, by omega, e⟩, fun _ => rfl⟩
    · rw [if_neg e, ih]
      constructor
      · rintro ⟨m, h1, h2, h3⟩; exact ⟨m, by omega, by omega, h3⟩
      · rintro ⟨m, h1, h2, h3⟩
        by_cases q : m = a
        · rw [q] at h3; exact absurd h3 e
        · exact ⟨m, by omega, by omega, h3⟩
theorem zcx_tc (hX : NX T nw) : (zmv T nw).any (zcx T nw) = ztc T nw := by
  obtain ⟨hh, hG⟩ := id hX
  have hT := NX_T hX
  have hN := NX_N hX
  have n8 := hT.2.1
  have hs01 : ∀ m, 0 ≤ m → m < T 1072 4 → zs T m = 0 ∨ zs T m = 1 := fun m a b => (hT.2.2.2.2.2.1 m a (by omega)).2
  have hzn : ((zn T : Nat) : Int) = T 1072 4 := zn_i hG
  rw [Bool.eq_iff_iff, List.any_eq_true]
  unfold ztc zchk
  rw [zc2_iff]
  constructor
  · rintro ⟨q, hq, hc⟩
    unfold zcx at hc
    have hc := of_decide_eq_true hc
    have hm := zmv_mem hT hq
    have ho := mv_ok hX hq
    have hkk := zkk hG ho.2.2.1.1 ho.2.2.1.2
    have hb := @zat_b hh (q.2 % T 1074 4) (q.2 / T 1074 4) T nw hG
    have ha := zat_at hc.1
    generalize zat T nw (q.2 % T 1074 4) (q.2 / T 1074 4) = c at *
    have hk : q.2 % T 1074 4 + T 1074 4 * (q.2 / T 1074 4) = q.2 := Int.emod_add_mul_ediv _ _
    have hz := hm.2.2.2.2.2
    have hz' := hz
    unfold zG zgo at hz'
    simp only [Bool.and_eq_true, decide_eq_true_eq] at hz'
    have hf := hz'.2
    unfold zfree at hf
    have hf := of_decide_eq_true hf
    have e9 : zman nw (q.2 % T 1074 4) (q.2 / T 1074 4) (T 1072 4).toNat 0 = c := by
      have := zat_i hX (m := c) (by omega) (by omega) (by rw [ha.1]; omega)
      rw [ha.1, ha.2] at this; exact this
    rw [e9] at hf
    have hne : zs T c ≠ zs T q.1 := by
      rcases hf with u | u
      · omega
      · exact u
    have s1 := hs01 c (by omega) (by omega)
    have s2 := hs01 q.1 hm.1 hm.2.1
    have hsd := hm.2.2.1
    refine ⟨c, by omega, by omega, hc.2, by omega, by rw [ha.1]; omega, ?_⟩
    rw [ha.1, ha.2, hk, zc1_iff]
    exact ⟨q.1, by omega, by omega, by omega, hz⟩
  · rintro ⟨c, c0, c1, hcw, hsc, hpl, hz1⟩
    rw [zc1_iff] at hz1
    obtain ⟨m, m0, m1, hsm, hg⟩ := hz1
    have s2 := hs01 m (by omega) (by omega)
    have hsd := hN.2.2.2
    have hcr : (0 ≤ nw (2 + 2 * c) ∧ nw (2 + 2 * c) < T 1074 4) ∧ (0 ≤ nw (3 + 2 * c) ∧ nw (3 + 2 * c) < T 1074 5) := by
      rcases hN.2.1 c (by omega) (by omega) with q | q
      · exact absurd q.1 hpl
      · exact q
    have e1 : (nw (2 + 2 * c) + T 1074 4 * nw (3 + 2 * c)) % T 1074 4 = nw (2 + 2 * c) := by rw [Int.add_mul_emod_self_left, Int.emod_eq_of_lt (by omega) (by omega)]
    have e2 : (nw (2 + 2 * c) + T 1074 4 * nw (3 + 2 * c)) / T 1074 4 = nw (3 + 2 * c) := by rw [Int.add_mul_ediv_left _ _ (by omega), Int.ediv_eq_zero_of_lt (by omega) (by omega)]; omega
    have k1 : nw (2 + 2 * c) + T 1074 4 * nw (3 + 2 * c) < zP T := by
      have hb := zP_b hG
      unfold zP
      have h3 : T 1074 4 * (nw (3 + 2 * c) + 1) ≤ T 1074 4 * T 1074 5 := Int.mul_le_mul_of_nonneg_left (by omega) (by omega)
      rw [Int.mul_add, Int.mul_one] at h3
      omega
    have k0 : 0 ≤ nw (2 + 2 * c) + T 1074 4 * nw (3 + 2 * c) := by
      have := Int.mul_nonneg (a := T 1074 4) (b := nw (3 + 2 * c)) (by omega) (by omega)
      omega
    refine ⟨(m, nw (2 + 2 * c) + T 1074 4 * nw (3 + 2 * c)), zmv_in hT (by omega) hg (by omega) (by omega) k0 k1, ?_⟩
    have hz := zat_i hX (m := c) (by omega) (by omega) hpl
    unfold zcx
    simp only [e1, e2, hz]
    exact decide_eq_true ⟨by omega, hcw⟩
theorem l_114 (hK : XG T h) (hS : XS T nw s h) (hX : NX T nw) (hV : isV v) (e2 : ah_m h v 2 = n) (n2 : n ≤ 200) : ∀ (R : List (Int × Int)) (i : Int) tl, 0 ≤ i → i + R.length = n → (∀ q ∈ R, q ∈ zmv T nw) → XMl T v h R i → wpB (d + 5) 114 11 (some (.inr (.inr 1)) :: some (.inr (.inr s)) :: some (.inr (.inr v)) :: some (.inl i) :: tl) [] h (fun o h1 => o = .inl (some (.inl (zb (R.any (zcx T nw))))) ∧ h1 = h) := by
  obtain ⟨hh, hG⟩ := id hX
  have hC := hK.2.2.2.2.2.1; have hR := hK.2.2.2.2.2.2.1
  intro R
  induction R with
  | nil =>
    intro i tl i0 i1 hR hx
    have hlt : ¬ i < n := by simp at i1; omega
    simp (disch := omega) only [q_114_11, b_114_11, q_114_58, b_114_58, ↓w_iconst, ↓w_aload_n_0, ↓w_aload_n_1, ↓w_aload_n_2, ↓w_iload_n_3, ↓w_iload_4, ↓w_istore, ↓w_getfield, ↓w_iaload, ↓w_ifCond_eq, ↓w_if_icmp_eq, ↓w_if_icmp_ge, ↓w_ireturn1, ↓w_invokevirtual_1, stw_0, stw_i, stw_l, stw_r, ofK0, ofK1, ofK2, lst1, lst2, lkill, kont_none, kont_some, Int.reduceToNat, List.length_cons, List.length_nil, Nat.reduceAdd, Nat.reduceLeDiff, Nat.zero_le, true_and, and_true, if_true, if_false, ne_eq, Int.reduceEq, Int.reduceNeg, not_false_eq_true, not_true_eq_false, ↓reduceIte, Int.reduceLT, Int.reduceLE, and_self, or_true, true_or, or_false, false_or, false_and, and_false, ah_t_w, ah_m_w, ah_n_w, lst1_0, List.tail_cons, w32_i, zbd, lst2_0, xt_1a hK, vv_t hK hV, vv_1 hK hV, vv_1a hK hV, vv_1b hK hV, s_t hK hS, s_4 hK hS, s_4a hK hS, s_4b hK hS, e2, hlt, List.any_nil, zb_f]
  | cons q R ih =>
    intro i tl i0 i1 hRq hx
    have hlt : i < n := by simp at i1; omega
    have i2 : i < 200 := by omega
    have ho := mv_ok hX (hRq q List.mem_cons_self)
    have hkk := zkk hG ho.2.2.1.1 ho.2.2.1.2
    have hb := @zat_b hh (q.2 % T 1074 4) (q.2 / T 1074 4) T nw hG
    have p0 : 0 ≤ zp5 T q.2 := by unfold zp5; omega
    have p1 : zp5 T q.2 < 25 := by unfold zp5; omega
    have ep := hx.1.2
    have eo : ah_m h (s + 2) (zp5 T q.2) = zat T nw (q.2 % T 1074 4) (q.2 / T 1074 4) := by
      rw [so hS p0 p1]; unfold zon5; rw [show zp5 T q.2 % 5 = q.2 % T 1074 4 by unfold zp5; omega, show zp5 T q.2 / 5 = q.2 / T 1074 4 by unfold zp5; omega]
    have ih := ih (i + 1)
    have ec : ∀ b, zcx T nw q = b → (q :: R).any (zcx T nw) = (b || R.any (zcx T nw)) := fun b e => by rw [List.any_cons, e]
    rw [q_114_11]
    by_cases g : zat T nw (q.2 % T 1074 4) (q.2 / T 1074 4) = -1
    · have e : zcx T nw q = false := by unfold zcx; exact decide_eq_false (fun u => u.1 g)
      rw [ec _ e, Bool.false_or]
      simp (disch := omega) only [b_114_11, q_114_52, b_114_52, ↓w_iconst, ↓w_aload_n_0, ↓w_aload_n_1, ↓w_aload_n_2, ↓w_iload_n_3, ↓w_iinc_3, ↓w_iload_4, ↓w_istore, ↓w_getfield, ↓w_iaload, ↓w_goto, ↓w_ifCond_eq, ↓w_if_icmp_eq, ↓w_if_icmp_ge, ↓w_ireturn1, ↓w_invokevirtual_1, stw_0, stw_i, stw_l, stw_r, ofK0, ofK1, ofK2, lst1, lst2, lkill, kont_none, kont_some, Int.reduceToNat, List.length_cons, List.length_nil, Nat.reduceAdd, Nat.reduceLeDiff, Nat.zero_le, true_and, and_true, if_true, if_false, ne_eq, Int.reduceEq, Int.reduceNeg, not_false_eq_true, not_true_eq_false, ↓reduceIte, Int.reduceLT, Int.reduceLE, and_self, or_true, true_or, or_false, false_or, false_and, and_false, ah_t_w, ah_m_w, ah_n_w, lst1_0, List.tail_cons, w32_i, zbd, lst2_0, xt_1a hK, vv_t hK hV, vv_1 hK hV, vv_1a hK hV, vv_1b hK hV, s_t hK hS, s_4 hK hS, s_4a hK hS, s_4b hK hS, e2, hlt, ep, eo, i0, i2, p0, p1, g]
      exact ih _ (by omega) (by simp at i1; omega) (fun u hu => hRq u (List.mem_cons_of_mem _ hu)) hx.2
    · have z0 : 0 ≤ zat T nw (q.2 % T 1074 4) (q.2 / T 1074 4) := by omega
      have z1 : zat T nw (q.2 % T 1074 4) (q.2 / T 1074 4) < T 1072 4 := by omega
      have hcb : zcw T (zat T nw (q.2 % T 1074 4) (q.2 / T 1074 4)) = 0 ∨ zcw T (zat T nw (q.2 % T 1074 4) (q.2 / T 1074 4)) = 1 := (hK.2.2.2.2.2.2.2.2.1 _ (km_b hK z0 z1).1 (by have := (km_b hK z0 z1).2; have := hK.2.2.1; omega)).2.2.2
      rcases hcb with g2 | g2
      · have e : zcx T nw q = false := by unfold zcx; exact decide_eq_false (fun u => by omega)
        rw [ec _ e, Bool.false_or]
        simp (disch := omega) only [b_114_11, q_114_52, b_114_52, ↓w_iconst, ↓w_aload_n_0, ↓w_aload_n_1, ↓w_aload_n_2, ↓w_iload_n_3, ↓w_iinc_3, ↓w_iload_4, ↓w_istore, ↓w_getfield, ↓w_iaload, ↓w_goto, ↓w_ifCond_eq, ↓w_if_icmp_eq, ↓w_if_icmp_ge, ↓w_ireturn1, ↓w_invokevirtual_1, stw_0, stw_i, stw_l, stw_r, ofK0, ofK1, ofK2, lst1, lst2, lkill, kont_none, kont_some, Int.reduceToNat, List.length_cons, List.length_nil, Nat.reduceAdd, Nat.reduceLeDiff, Nat.zero_le, true_and, and_true, if_true, if_false, ne_eq, Int.reduceEq, Int.reduceNeg, not_false_eq_true, not_true_eq_false, ↓reduceIte, Int.reduceLT, Int.reduceLE, and_self, or_true, true_or, or_false, false_or, false_and, and_false, ah_t_w, ah_m_w, ah_n_w, lst1_0, List.tail_cons, w32_i, zbd, lst2_0, xt_1a hK, vv_t hK hV, vv_1 hK hV, vv_1a hK hV, vv_1b hK hV, s_t hK hS, s_4 hK hS, s_4a hK hS, s_4b hK hS, e2, hlt, ep, eo, i0, i2, p0, p1, g, c_82 hK z0 z1, km_t hK z0 z1, km_4 hK z0 z1, g2]
        exact ih _ (by omega) (by simp at i1; omega) (fun u hu => hRq u (List.mem_cons_of_mem _ hu)) hx.2
      · have e : zcx T nw q = true := by unfold zcx; exact decide_eq_true ⟨g, g2⟩
        rw [ec _ e, Bool.true_or]
        simp (disch := omega) only [b_114_11, q_114_52, b_114_52, ↓w_iconst, ↓w_aload_n_0, ↓w_aload_n_1, ↓w_aload_n_2, ↓w_iload_n_3, ↓w_iinc_3, ↓w_iload_4, ↓w_istore, ↓w_getfield, ↓w_iaload, ↓w_goto, ↓w_ifCond_eq, ↓w_if_icmp_eq, ↓w_if_icmp_ge, ↓w_ireturn1, ↓w_invokevirtual_1, stw_0, stw_i, stw_l, stw_r, ofK0, ofK1, ofK2, lst1, lst2, lkill, kont_none, kont_some, Int.reduceToNat, List.length_cons, List.length_nil, Nat.reduceAdd, Nat.reduceLeDiff, Nat.zero_le, true_and, and_true, if_true, if_false, ne_eq, Int.reduceEq, Int.reduceNeg, not_false_eq_true, not_true_eq_false, ↓reduceIte, Int.reduceLT, Int.reduceLE, and_self, or_true, true_or, or_false, false_or, false_and, and_false, ah_t_w, ah_m_w, ah_n_w, lst1_0, List.tail_cons, w32_i, zbd, lst2_0, xt_1a hK, vv_t hK hV, vv_1 hK hV, vv_1a hK hV, vv_1b hK hV, s_t hK hS, s_4 hK hS, s_4a hK hS, s_4b hK hS, e2, hlt, ep, eo, i0, i2, p0, p1, g, c_82 hK z0 z1, km_t hK z0 z1, km_4 hK z0 z1, g2, zb_t]
theorem c_114 (hK : XG T h) (hS : XS T nw s h) (hX : NX T nw) (h40 : nw 24 ≤ 40) (hV : isV v) (hQ : ∀ h', XG T h' → XS T nw s h' → Off (Wmv v) h h' → Q (.inl (some (.inl (zb (ztc T nw))))) h') : wpC (d + 8) 114 [.inr (.inr 1), .inr (.inr s), .inr (.inr v)] h Q := by
  rw [wpC_B]; refine ⟨⟨Nat.zero_lt_succ _, Nat.le_of_ble_eq_true rfl⟩, ?_⟩; simp only [lent]
  simp (disch := omega) only [q_114_0, b_114_0, ↓w_iconst, ↓w_aload_n_1, ↓w_aload_n_2, ↓w_istore_n_3, ↓w_getfield, ↓w_nop, ↓w_invokevirtual_2, stw_0, stw_i, stw_l, stw_r, ofK0, ofK1, ofK2, lst1, lst2, lkill, kont_none, kont_some, Int.reduceToNat, List.length_cons, List.length_nil, Nat.reduceAdd, Nat.reduceLeDiff, Nat.zero_le, true_and, and_true, if_true, if_false, ne_eq, Int.reduceEq, Int.reduceNeg, not_false_eq_true, not_true_eq_false, ↓reduceIte, Int.reduceLT, Int.reduceLE, and_self, or_true, true_or, or_false, false_or, false_and, and_false, ah_t_w, ah_m_w, ah_n_w, lst1_0, List.tail_cons, w32_i, zbd, lst2_0, s_t hK hS, s_1 hS]
  refine c_215 (d := d) hK hS h40 (NX_N hX) hV (fun h1 hx hlen hO1 => ?_)
  have hx : XM T v (zmv T nw) h1 := hx
  have hK1 := XG_off hK hO1 (Wmv_ok hV)
  have hS1 := XS_off hS h40 hO1 (Wmv_S hV hS.1)
  simp (disch := omega) only [b_114_0, ↓w_iconst, ↓w_aload_n_1, ↓w_aload_n_2, ↓w_istore_n_3, ↓w_getfield, ↓w_nop, ↓w_invokevirtual_2, stw_0, stw_i, stw_l, stw_r, ofK0, ofK1, ofK2, lst1, lst2, lkill, kont_none, kont_some, Int.reduceToNat, List.length_cons, List.length_nil, Nat.reduceAdd, Nat.reduceLeDiff, Nat.zero_le, true_and, and_true, if_true, if_false, ne_eq, Int.reduceEq, Int.reduceNeg, not_false_eq_true, not_true_eq_false, ↓reduceIte, Int.reduceLT, Int.reduceLE, and_self, or_true, true_or, or_false, false_or, false_and, and_false, ah_t_w, ah_m_w, ah_n_w, lst1_0, List.tail_cons, w32_i, zbd, lst2_0]
  refine wpB_mono (l_114 (d := d + 2) hK1 hS1 hX hV hx.1 hlen (zmv T nw) 0 _ (by omega) (by omega) (fun _ q => q) hx.2) (fun o h2 q => ?_)
  rw [q.1, q.2, zcx_tc hX]
  exact hQ h1 hK1 hS1 hO1
theorem l_115 (hX : NX T nw) (h40 : nw 24 ≤ 40) (hlen : n ≤ 200) {E : Bool} (hQ : ∀ h', XG T h' → XS T nw 70 h' → Off Wff h h' → Q (.inl (some (.inl (zb E)))) h') {a1 : Int} :
    ∀ (R : List (Int × Int)) (i : Int) tl h', 0 ≤ i → i + R.length = n → (∀ q ∈ R, q ∈ zmv T nw) → XG T h' → XS T nw 70 h' → ah_m h' 1023 2 = n → XMl T 1023 h' R i → R.all (fun x => !zcr T (zdo T nw x.1 x.2) && ztc T (zdo T nw x.1 x.2)) = E → Off Wff h h' → wpB (d + 8) 115 69 (some (.inr (.inr 1)) :: some (.inl a1) :: some (.inr (.inr 1023)) :: some (.inl i) :: tl) [] h' Q := by
  have hV : isV 1023 := by unfold isV; omega
  have hV2 : isV 1026 := by unfold isV; omega
  intro R
  induction R with
  | nil =>
    intro i tl h' i0 i1 hR hK hS e2 hx hE hO
    have hlt : ¬ i < n := by simp at i1; omega
    simp (disch := omega) only [q_115_69, b_115_69, q_115_174, b_115_174, ↓w_iconst, ↓w_aload_n_0, ↓w_aload_n_2, ↓w_iload_n_3, ↓w_iload_4, ↓w_istore, ↓w_getfield, ↓w_iaload, ↓w_aaload, ↓w_goto, ↓w_ifCond_eq, ↓w_ifCond_ne, ↓w_if_icmp_ge, ↓w_ireturn1, ↓w_invokevirtual_2, stw_0, stw_i, stw_l, stw_r, ofK0, ofK1, ofK2, lst1, lst2, lkill, kont_none, kont_some, Int.reduceToNat, List.length_cons, List.length_nil, Nat.reduceAdd, Nat.reduceLeDiff, Nat.zero_le, true_and, and_true, if_true, if_false, ne_eq, Int.reduceEq, Int.reduceNeg, not_false_eq_true, not_true_eq_false, ↓reduceIte, Int.reduceLT, Int.reduceLE, and_self, or_true, true_or, or_false, false_or, false_and, and_false, ah_t_w, ah_m_w, ah_n_w, lst1_0, List.tail_cons, w32_i, zbd, lst2_0, xt_1a hK, xf_1_9 hK, xt_18a hK, xt_18b hK, xf_1_13 hK, vv_t hK hV, vv_0 hK hV, vv_0a hK hV, vv_0b hK hV, vv_1 hK hV, vv_1a hK hV, vv_1b hK hV, s_t hK hS, s_3 hK hS, s_3a hK hS, s_3b hK hS, s_7 hS, e2, hlt]
    rw [List.all_nil] at hE
    subst hE
    exact hQ h' hK hS hO
  | cons q R ih =>
    intro i tl h' i0 i1 hR hK hS e2 hx hE hO
    have hlt : i < n := by simp at i1; omega
    have i2 : i < 200 := by omega
    have ho := mv_ok hX (hR q List.mem_cons_self)
    have hm := ho.1
    have n8 := hK.2.2.2.1
    have m8 : q.1 < 8 := by omega
    have m0 := hm.1
    have ep := sp hS hm.1 hm.2
    have x1 := hx.1.1
    have x2 := hx.1.2
    have hXd := NX_do hX hm.1 hm.2 ho.2.2.1.1 ho.2.2.1.2
    have d24 : zdo T nw q.1 q.2 24 ≤ 40 := by rw [zdo_r hX hm.1 hm.2 (by omega)]; exact h40
    have hz := @zcn_z T (zdo T nw q.1 q.2) (zn T) 0
    have hz0 := @zcn_0 T (zdo T nw q.1 q.2) (zn T) 0
    rw [q_115_69]
    simp (disch := omega) only [b_115_69, ↓w_iconst, ↓w_aload_n_0, ↓w_aload_n_2, ↓w_iload_n_3, ↓w_iload_4, ↓w_istore, ↓w_getfield, ↓w_iaload, ↓w_aaload, ↓w_goto, ↓w_ifCond_eq, ↓w_ifCond_ne, ↓w_if_icmp_ge, ↓w_invokevirtual_2, stw_0, stw_i, stw_l, stw_r, ofK0, ofK1, ofK2, lst1, lst2, lkill, kont_none, kont_some, Int.reduceToNat, List.length_cons, List.length_nil, Nat.reduceAdd, Nat.reduceLeDiff, Nat.zero_le, true_and, and_true, if_true, if_false, ne_eq, Int.reduceEq, Int.reduceNeg, not_false_eq_true, not_true_eq_false, ↓reduceIte, Int.reduceLT, Int.reduceLE, and_self, or_true, true_or, or_false, false_or, false_and, and_false, ah_t_w, ah_m_w, ah_n_w, lst1_0, List.tail_cons, w32_i, zbd, lst2_0, xt_1a hK, xf_1_9 hK, xt_18a hK, xt_18b hK, xf_1_13 hK, vv_t hK hV, vv_0 hK hV, vv_0a hK hV, vv_0b hK hV, vv_1 hK hV, vv_1a hK hV, vv_1b hK hV, s_t hK hS, s_3 hK hS, s_3a hK hS, s_3b hK hS, s_7 hS, e2, hlt, x1, x2, i0, i2, ep, m0, m8]
    refine c_221 (d := d + 2) hK hS hX h40 hm.1 hm.2 ho.2.1 ho.2.2.1.1 ho.2.2.1.2 ho.2.2.2 (fun h1 hK1 hS1 hO1 => ?_)
    have hO1' : Off Wff h' h1 := Off_mono (fun r i w => Or.inl w) hO1
    -- behind: back and on
    have back : ∀ (E1 : Bool) h2, XG T h2 → XS T (zdo T nw q.1 q.2) 70 h2 → Off Wff h' h2 → (!zcr T (zdo T nw q.1 q.2) && ztc T (zdo T nw q.1 q.2)) = E1 → ∀ tl, wpB (d + 8) 115 146 (some (.inr (.inr 1)) :: some (.inl a1) :: some (.inr (.inr 1023)) :: some (.inl i) :: some (.inl q.1) :: some (.inl (zpl5 nw q.1)) :: some (.inl (zat T nw (q.2 % T 1074 4) (q.2 / T 1074 4))) :: tl) [.inl (zb E1)] h2 Q := by
      intro E1 h2 hK2 hS2 hO2 hE1 tl
      simp (disch := omega) only [q_115_146, b_115_146, ↓w_iconst, ↓w_aload_n_0, ↓w_iload_4, ↓w_iload_5, ↓w_iload_6, ↓w_iload_7, ↓w_istore, ↓w_getfield, ↓w_ifCond_ne, ↓w_ireturn1, ↓w_invokevirtual_3, stw_0, stw_i, stw_l, stw_r, ofK0, ofK1, ofK2, lst1, lst2, lkill, kont_none, kont_some, Int.reduceToNat, List.length_cons, List.length_nil, Nat.reduceAdd, Nat.reduceLeDiff, Nat.zero_le, true_and, and_true, if_true, if_false, ne_eq, Int.reduceEq, Int.reduceNeg, not_false_eq_true, not_true_eq_false, ↓reduceIte, Int.reduceLT, Int.reduceLE, and_self, or_true, true_or, or_false, false_or, false_and, and_false, ah_t_w, ah_m_w, ah_n_w, lst1_0, List.tail_cons, w32_i, zbd, lst2_0, xt_1a hK2, xf_1_13 hK2, s_t hK2 hS2]
      refine c_226 (d := d + 2) hK2 hS2 hX h40 hm.1 hm.2 ho.2.1 ho.2.2.1.1 ho.2.2.1.2 ho.2.2.2 (fun h3 hK3 hS3 hO3 => ?_)
      have hO3' : Off Wff h' h3 := Off_tr hO2 (Off_mono (fun r i w => Or.inl w) hO3)
      rw [List.all_cons, hE1] at hE
      cases E1 with
      | false =>
        simp (disch := omega) only [b_115_146, ↓w_iconst, ↓w_aload_n_0, ↓w_iload_4, ↓w_iload_5, ↓w_iload_6, ↓w_iload_7, ↓w_istore, ↓w_getfield, ↓w_ifCond_ne, ↓w_ireturn1, ↓w_invokevirtual_3, stw_0, stw_i, stw_l, stw_r, ofK0, ofK1, ofK2, lst1, lst2, lkill, kont_none, kont_some, Int.reduceToNat, List.length_cons, List.length_nil, Nat.reduceAdd, Nat.reduceLeDiff, Nat.zero_le, true_and, and_true, if_true, if_false, ne_eq, Int.reduceEq, Int.reduceNeg, not_false_eq_true, not_true_eq_false, ↓reduceIte, Int.reduceLT, Int.reduceLE, and_self, or_true, true_or, or_false, false_or, false_and, and_false, ah_t_w, ah_m_w, ah_n_w, lst1_0, List.tail_cons, w32_i, zbd, lst2_0, zb_f]
        rw [Bool.false_and] at hE
        subst hE
        exact hQ h3 hK3 hS3 (Off_tr hO hO3')
      | true =>
        simp (disch := omega) only [b_115_146, q_115_168, b_115_168, ↓w_iconst, ↓w_aload_n_0, ↓w_iinc_3, ↓w_iload_4, ↓w_iload_5, ↓w_iload_6, ↓w_iload_7, ↓w_istore, ↓w_getfield, ↓w_goto, ↓w_ifCond_ne, ↓w_ireturn1, ↓w_invokevirtual_3, stw_0, stw_i, stw_l, stw_r, ofK0, ofK1, ofK2, lst1, lst2, lkill, kont_none, kont_some, Int.reduceToNat, List.length_cons, List.length_nil, Nat.reduceAdd, Nat.reduceLeDiff, Nat.zero_le, true_and, and_true, if_true, if_false, ne_eq, Int.reduceEq, Int.reduceNeg, not_false_eq_true, not_true_eq_false, ↓reduceIte, Int.reduceLT, Int.reduceLE, and_self, or_true, true_or, or_false, false_or, false_and, and_false, ah_t_w, ah_m_w, ah_n_w, lst1_0, List.tail_cons, w32_i, zbd, lst2_0, zb_t]
        rw [Bool.true_and] at hE
        have dis : ∀ r i, Wff r i → r ≠ 1024 ∧ r ≠ 1025 ∧ r ≠ 1023 := fun r i w => by unfold Wff WSs Wmv at w; omega
        exact ih (i + 1) _ h3 (by omega) (by simp at i1; omega) (fun u hu => hR u (List.mem_cons_of_mem _ hu)) hK3 hS3 (by rw [hO3'.2 _ _ (fun w => (dis _ _ w).2.2 rfl)]; exact e2) (XMl_off hO3' (fun r i w => ⟨(dis r i w).1, (dis r i w).2.1⟩) R (i + 1) hx.2) hE (Off_tr hO hO3')
    by_cases g : zcr T (zdo T nw q.1 q.2) = true
    · have g1 : ¬ zcn T (zdo T nw q.1 q.2) (zn T) 0 = 0 := by have := hz.1 g; omega
      have bk := back false h1 hK1 hS1 hO1' (by rw [g]; rfl)
      rw [zb_f] at bk
      simp (disch := omega) only [b_115_69, q_115_145, b_115_145, ↓w_iconst, ↓w_aload_n_0, ↓w_aload_n_2, ↓w_iload_n_3, ↓w_iload_4, ↓w_istore, ↓w_getfield, ↓w_iaload, ↓w_aaload, ↓w_nop, ↓w_goto, ↓w_ifCond_eq, ↓w_ifCond_ne, ↓w_if_icmp_ge, ↓w_invokevirtual_2, stw_0, stw_i, stw_l, stw_r, ofK0, ofK1, ofK2, lst1, lst2, lkill, kont_none, kont_some, Int.reduceToNat, List.length_cons, List.length_nil, Nat.reduceAdd, Nat.reduceLeDiff, Nat.zero_le, true_and, and_true, if_true, if_false, ne_eq, Int.reduceEq, Int.reduceNeg, not_false_eq_true, not_true_eq_false, ↓reduceIte, Int.reduceLT, Int.reduceLE, and_self, or_true, true_or, or_false, false_or, false_and, and_false, ah_t_w, ah_m_w, ah_n_w, lst1_0, List.tail_cons, w32_i, zbd, lst2_0, xt_1a hK1, xf_1_9 hK1, xt_18a hK1, xt_18b hK1, xf_1_13 hK1, s_t hK1 hS1, s_3 hK1 hS1, s_3a hK1 hS1, s_3b hK1 hS1, s_7 hS1, g1]
      exact bk _
    · have g1 : zcn T (zdo T nw q.1 q.2) (zn T) 0 = 0 := by
        have : ¬ 0 < zcn T (zdo T nw q.1 q.2) (zn T) 0 := fun u => g (hz.2 u)
        omega
      have g' : zcr T (zdo T nw q.1 q.2) = false := by simpa using g
      have mv := xf_18_2 hK1
      simp (disch := omega) only [b_115_69, ↓w_iconst, ↓w_aload_n_0, ↓w_aload_n_2, ↓w_iload_n_3, ↓w_iload_4, ↓w_istore, ↓w_getfield, ↓w_iaload, ↓w_aaload, ↓w_goto, ↓w_ifCond_eq, ↓w_ifCond_ne, ↓w_if_icmp_ge, ↓w_invokevirtual_2, stw_0, stw_i, stw_l, stw_r, ofK0, ofK1, ofK2, lst1, lst2, lkill, kont_none, kont_some, Int.reduceToNat, List.length_cons, List.length_nil, Nat.reduceAdd, Nat.reduceLeDiff, Nat.zero_le, true_and, and_true, if_true, if_false, ne_eq, Int.reduceEq, Int.reduceNeg, not_false_eq_true, not_true_eq_false, ↓reduceIte, Int.reduceLT, Int.reduceLE, and_self, or_true, true_or, or_false, false_or, false_and, and_false, ah_t_w, ah_m_w, ah_n_w, lst1_0, List.tail_cons, w32_i, zbd, lst2_0, xt_1a hK1, xf_1_9 hK1, xt_18a hK1, xt_18b hK1, xf_1_13 hK1, s_t hK1 hS1, s_3 hK1 hS1, s_3a hK1 hS1, s_3b hK1 hS1, s_7 hS1, g1, mv]
      refine c_114 (d := d) hK1 hS1 hXd d24 hV2 (fun h2 hK2 hS2 hO2 => ?_)
      have hO2' : Off Wff h' h2 := Off_tr hO1' (Off_mono (fun r i w => Or.inr w) hO2)
      have bk := back (ztc T (zdo T nw q.1 q.2)) h2 hK2 hS2 hO2' (by rw [g']; rfl)
      cases e : ztc T (zdo T nw q.1 q.2) with
      | false =>
        rw [e, zb_f] at bk
        simp (disch := omega) only [b_115_69, q_115_145, b_115_145, ↓w_iconst, ↓w_aload_n_0, ↓w_aload_n_2, ↓w_iload_n_3, ↓w_iload_4, ↓w_istore, ↓w_getfield, ↓w_iaload, ↓w_aaload, ↓w_nop, ↓w_goto, ↓w_ifCond_eq, ↓w_ifCond_ne, ↓w_if_icmp_ge, ↓w_invokevirtual_2, stw_0, stw_i, stw_l, stw_r, ofK0, ofK1, ofK2, lst1, lst2, lkill, kont_none, kont_some, Int.reduceToNat, List.length_cons, List.length_nil, Nat.reduceAdd, Nat.reduceLeDiff, Nat.zero_le, true_and, and_true, if_true, if_false, ne_eq, Int.reduceEq, Int.reduceNeg, not_false_eq_true, not_true_eq_false, ↓reduceIte, Int.reduceLT, Int.reduceLE, and_self, or_true, true_or, or_false, false_or, false_and, and_false, ah_t_w, ah_m_w, ah_n_w, lst1_0, List.tail_cons, w32_i, zbd, lst2_0, zb_f]
        exact bk _
      | true =>
        rw [e, zb_t] at bk
        simp (disch := omega) only [b_115_69, ↓w_iconst, ↓w_aload_n_0, ↓w_aload_n_2, ↓w_iload_n_3, ↓w_iload_4, ↓w_istore, ↓w_getfield, ↓w_iaload, ↓w_aaload, ↓w_goto, ↓w_ifCond_eq, ↓w_ifCond_ne, ↓w_if_icmp_ge, ↓w_invokevirtual_2, stw_0, stw_i, stw_l, stw_r, ofK0, ofK1, ofK2, lst1, lst2, lkill, kont_none, kont_some, Int.reduceToNat, List.length_cons, List.length_nil, Nat.reduceAdd, Nat.reduceLeDiff, Nat.zero_le, true_and, and_true, if_true, if_false, ne_eq, Int.reduceEq, Int.reduceNeg, not_false_eq_true, not_true_eq_false, ↓reduceIte, Int.reduceLT, Int.reduceLE, and_self, or_true, true_or, or_false, false_or, false_and, and_false, ah_t_w, ah_m_w, ah_n_w, lst1_0, List.tail_cons, w32_i, zbd, lst2_0, zb_t]
        exact bk _
theorem c_115 {q : Int × Int} (hA : XA T nw h) (hX : NX T nw) (hF : FV nw) (hq : q ∈ zmv T nw) (k0 : 0 ≤ k) (k1 : k < 200) (e1 : ah_m h (22 + 1) k = q.1) (e2 : ah_m h (22 + 2) k = zp5 T q.2)
    (hQ : ∀ h', XA T nw h' → Off Wfb h h' → Q (.inl (some (.inl (zb (!zcr T (zdo T nw q.1 q.2) && zfn T (zdo T nw q.1 q.2)))))) h') : wpC (d + 9) 115 [.inr (.inr 1), .inl k] h Q := by
  have h40 := hF.2.2.2
  have ho := mv_ok hX hq
  have hm := ho.1
  have hXd := NX_do hX hm.1 hm.2 ho.2.2.1.1 ho.2.2.1.2
  have d24 : zdo T nw q.1 q.2 24 ≤ 40 := by rw [zdo_r hX hm.1 hm.2 (by omega)]; exact h40
  have hV : isV 22 := by unfold isV; omega
  have hV1 : isV 1023 := by unfold isV; omega
  have hK := hA.1
  have hS := hA.2.1
  have tS := sz_t hK is70
  have Wok : ∀ r i, Wfb r i → Wth r i := fun r i w => by
    rcases w with w | w | w | w
    · exact Wth_cp r i w
    · rcases w with w | w
      · exact Wth_ss r i w
      · exact Wth_mv (by unfold isV; omega) r i w
    · exact Wth_mv (by unfold isV; omega) r i w
    · exact Wth_mv (by unfold isV; omega) r i w
  rw [wpC_B]; refine ⟨⟨Nat.zero_lt_succ _, Nat.le_of_ble_eq_true rfl⟩, ?_⟩; simp only [lent]
  simp (disch := omega) only [q_115_0, b_115_0, ↓w_iconst, ↓w_aload_n_0, ↓w_iload_n_1, ↓w_pop_i, ↓w_pop_a, ↓w_getfield, ↓w_iaload, ↓w_ifCond_eq, ↓w_ireturn1, ↓w_invokevirtual_0, ↓w_invokevirtual_1, ↓w_invokevirtual_2, stw_0, stw_i, stw_l, stw_r, ofK0, ofK1, ofK2, lst1, lst2, lkill, kont_none, kont_some, Int.reduceToNat, List.length_cons, List.length_nil, Nat.reduceAdd, Nat.reduceLeDiff, Nat.zero_le, true_and, and_true, if_true, if_false, ne_eq, Int.reduceEq, Int.reduceNeg, not_false_eq_true, not_true_eq_false, ↓reduceIte, Int.reduceLT, Int.reduceLE, and_self, or_true, true_or, or_false, false_or, false_and, and_false, ah_t_w, ah_m_w, ah_n_w, lst1_0, List.tail_cons, w32_i, zbd, lst2_0, xt_1a hK, xf_1_11 hK, xf_1_12 hK, xf_1_13 hK, s_t hK hS, tS]
  refine cpy (d := d + 7) hA hF (fun h1 hA1 hS1 hO1 => ?_)
  have hK1 := hA1.1
  have f1 : ah_m h1 (22 + 1) k = q.1 := by rw [hO1.2 _ _ (by unfold Wcp; omega)]; exact e1
  have f2 : ah_m h1 (22 + 2) k = zp5 T q.2 := by rw [hO1.2 _ _ (by unfold Wcp; omega)]; exact e2
  simp (disch := omega) only [b_115_0, ↓w_iconst, ↓w_aload_n_0, ↓w_iload_n_1, ↓w_pop_i, ↓w_pop_a, ↓w_getfield, ↓w_iaload, ↓w_ifCond_eq, ↓w_ireturn1, ↓w_invokevirtual_0, ↓w_invokevirtual_1, ↓w_invokevirtual_2, stw_0, stw_i, stw_l, stw_r, ofK0, ofK1, ofK2, lst1, lst2, lkill, kont_none, kont_some, Int.reduceToNat, List.length_cons, List.length_nil, Nat.reduceAdd, Nat.reduceLeDiff, Nat.zero_le, true_and, and_true, if_true, if_false, ne_eq, Int.reduceEq, Int.reduceNeg, not_false_eq_true, not_true_eq_false, ↓reduceIte, Int.reduceLT, Int.reduceLE, and_self, or_true, true_or, or_false, false_or, false_and, and_false, ah_t_w, ah_m_w, ah_n_w, lst1_0, List.tail_cons, w32_i, zbd, lst2_0, xt_1a hK1, xf_1_11 hK1, xf_1_12 hK1, xf_1_13 hK1, vv_t hK1 hV, vv_0 hK1 hV, vv_0a hK1 hV, vv_0b hK1 hV, vv_1 hK1 hV, vv_1a hK1 hV, vv_1b hK1 hV, s_t hK1 hS1, f1, f2, k0, k1]
  refine c_221 (d := d + 2) hK1 hS1 hX h40 hm.1 hm.2 ho.2.1 ho.2.2.1.1 ho.2.2.1.2 ho.2.2.2 (fun h2 hK2 hS2 hO2 => ?_)
  have hO2' : Off Wfb h h2 := Off_tr (Off_mono (fun r i w => Or.inl w) hO1) (Off_mono (fun r i w => Or.inr (Or.inl (Or.inl w))) hO2)
  simp (disch := omega) only [b_115_0, ↓w_iconst, ↓w_aload_n_0, ↓w_iload_n_1, ↓w_pop_i, ↓w_pop_a, ↓w_getfield, ↓w_iaload, ↓w_ifCond_eq, ↓w_ireturn1, ↓w_invokevirtual_0, ↓w_invokevirtual_1, ↓w_invokevirtual_2, stw_0, stw_i, stw_l, stw_r, ofK0, ofK1, ofK2, lst1, lst2, lkill, kont_none, kont_some, Int.reduceToNat, List.length_cons, List.length_nil, Nat.reduceAdd, Nat.reduceLeDiff, Nat.zero_le, true_and, and_true, if_true, if_false, ne_eq, Int.reduceEq, Int.reduceNeg, not_false_eq_true, not_true_eq_false, ↓reduceIte, Int.reduceLT, Int.reduceLE, and_self, or_true, true_or, or_false, false_or, false_and, and_false, ah_t_w, ah_m_w, ah_n_w, lst1_0, List.tail_cons, w32_i, zbd, lst2_0, xt_1a hK2, xf_1_11 hK2, xf_1_12 hK2, xf_1_13 hK2, s_t hK2 hS2]
  refine c_214 (d := d) hK2 hS2 hXd d24 (fun h3 hK3 hS3 hx3 hO3 => ?_)
  have hO3' : Off Wfb h h3 := Off_tr hO2' (Off_mono (fun r i w => Or.inr (Or.inr (Or.inl w))) hO3)
  cases g : zcr T (zdo T nw q.1 q.2) with
  | true =>
    rw [g] at hQ
    simp (disch := omega) only [b_115_0, ↓w_iconst, ↓w_aload_n_0, ↓w_iload_n_1, ↓w_pop_i, ↓w_pop_a, ↓w_getfield, ↓w_iaload, ↓w_ifCond_eq, ↓w_ireturn1, ↓w_invokevirtual_0, ↓w_invokevirtual_1, ↓w_invokevirtual_2, stw_0, stw_i, stw_l, stw_r, ofK0, ofK1, ofK2, lst1, lst2, lkill, kont_none, kont_some, Int.reduceToNat, List.length_cons, List.length_nil, Nat.reduceAdd, Nat.reduceLeDiff, Nat.zero_le, true_and, and_true, if_true, if_false, ne_eq, Int.reduceEq, Int.reduceNeg, not_false_eq_true, not_true_eq_false, ↓reduceIte, Int.reduceLT, Int.reduceLE, and_self, or_true, true_or, or_false, false_or, false_and, and_false, ah_t_w, ah_m_w, ah_n_w, lst1_0, List.tail_cons, w32_i, zbd, lst2_0, Bool.true_or, zb_t]
    have := hQ h3 (XA_th hA h40 (Off_mono Wok hO3') hS3.2.2.2.2.2.2) hO3'
    rw [Bool.not_true, Bool.false_and, zb_f] at this
    exact this
  | false =>
    rw [g] at hQ
    rw [Bool.not_false, Bool.true_and] at hQ
    unfold zfn at hQ
    cases g2 : (zmv T (zdo T nw q.1 q.2)).isEmpty with
    | true =>
      rw [g2] at hQ
      simp (disch := omega) only [b_115_0, ↓w_iconst, ↓w_aload_n_0, ↓w_iload_n_1, ↓w_pop_i, ↓w_pop_a, ↓w_getfield, ↓w_iaload, ↓w_ifCond_eq, ↓w_ireturn1, ↓w_invokevirtual_0, ↓w_invokevirtual_1, ↓w_invokevirtual_2, stw_0, stw_i, stw_l, stw_r, ofK0, ofK1, ofK2, lst1, lst2, lkill, kont_none, kont_some, Int.reduceToNat, List.length_cons, List.length_nil, Nat.reduceAdd, Nat.reduceLeDiff, Nat.zero_le, true_and, and_true, if_true, if_false, ne_eq, Int.reduceEq, Int.reduceNeg, not_false_eq_true, not_true_eq_false, ↓reduceIte, Int.reduceLT, Int.reduceLE, and_self, or_true, true_or, or_false, false_or, false_and, and_false, ah_t_w, ah_m_w, ah_n_w, lst1_0, List.tail_cons, w32_i, zbd, lst2_0, Bool.false_or, zb_t]
      have := hQ h3 (XA_th hA h40 (Off_mono Wok hO3') hS3.2.2.2.2.2.2) hO3'
      rw [Bool.not_true, Bool.false_and, zb_f] at this
      exact this
    | false =>
      rw [g2] at hQ
      rw [Bool.not_false, Bool.true_and] at hQ
      have mv := xf_18_1 hK3
      simp (disch := omega) only [b_115_0, q_115_45, b_115_45, ↓w_iconst, ↓w_aload_n_0, ↓w_iload_n_1, ↓w_aload_n_2, ↓w_istore_n_3, ↓w_astore_n_2, ↓w_pop_i, ↓w_pop_a, ↓w_getfield, ↓w_iaload, ↓w_aaload, ↓w_nop, ↓w_ifCond_eq, ↓w_ireturn1, ↓w_invokevirtual_0, ↓w_invokevirtual_1, ↓w_invokevirtual_2, stw_0, stw_i, stw_l, stw_r, ofK0, ofK1, ofK2, lst1, lst2, lkill, kont_none, kont_some, Int.reduceToNat, List.length_cons, List.length_nil, Nat.reduceAdd, Nat.reduceLeDiff, Nat.zero_le, true_and, and_true, if_true, if_false, ne_eq, Int.reduceEq, Int.reduceNeg, not_false_eq_true, not_true_eq_false, ↓reduceIte, Int.reduceLT, Int.reduceLE, and_self, or_true, true_or, or_false, false_or, false_and, and_false, ah_t_w, ah_m_w, ah_n_w, lst1_0, List.tail_cons, w32_i, zbd, lst2_0, xt_1a hK3, xf_1_9 hK3, xt_18a hK3, xt_18b hK3, xf_1_11 hK3, xf_1_12 hK3, xf_1_13 hK3, s_t hK3 hS3, s_1 hS3, Bool.false_or, zb_f, mv]
      refine c_215 (d := d + 1) hK3 hS3 d24 (NX_N hXd) hV1 (fun h4 hx4 hlen hO4 => ?_)
      have hx4 : XM T 1023 (zmv T (zdo T nw q.1 q.2)) h4 := hx4
      have hlen : ((zmv T (zdo T nw q.1 q.2)).length : Int) ≤ 200 := hlen
      have hK4 := XG_off hK3 hO4 (Wmv_ok hV1)
      have hS4 := XS_off hS3 d24 hO4 (Wmv_S hV1 is70)
      have hO4' : Off Wfb h h4 := Off_tr hO3' (Off_mono (fun r i w => Or.inr (Or.inr (Or.inr w))) hO4)
      simp (disch := omega) only [b_115_45, ↓w_iconst, ↓w_aload_n_0, ↓w_aload_n_2, ↓w_istore_n_3, ↓w_astore_n_2, ↓w_getfield, ↓w_aaload, ↓w_nop, ↓w_invokevirtual_2, stw_0, stw_i, stw_l, stw_r, ofK0, ofK1, ofK2, lst1, lst2, lkill, kont_none, kont_some, Int.reduceToNat, List.length_cons, List.length_nil, Nat.reduceAdd, Nat.reduceLeDiff, Nat.zero_le, true_and, and_true, if_true, if_false, ne_eq, Int.reduceEq, Int.reduceNeg, not_false_eq_true, not_true_eq_false, ↓reduceIte, Int.reduceLT, Int.reduceLE, and_self, or_true, true_or, or_false, false_or, false_and, and_false, ah_t_w, ah_m_w, ah_n_w, lst1_0, List.tail_cons, w32_i, zbd, lst2_0]
      refine l_115 (d := d) (h := h4) hXd d24 hlen (fun h5 hK5 hS5 hO5 => ?_) (zmv T (zdo T nw q.1 q.2)) 0 _ h4 (by omega) (by omega) (fun _ u => u) hK4 hS4 hx4.1 hx4.2 rfl Off_rfl
      have hO5' : Off Wfb h h5 := Off_tr hO4' (Off_mono (fun r i w => Or.inr (Or.inl w)) hO5)
      exact hQ h5 (XA_th hA h40 (Off_mono Wok hO5') hS5.2.2.2.2.2.2) hO5'
theorem l_113 (hX : NX T nw) (hF : FV nw) (hlen : n ≤ 200) {E : Int} (hQ : ∀ h', XA T nw h' → Off Wth h h' → Q (.inl (some (.inl E))) h') :
    ∀ (R : List (Int × Int)) (i : Int) h', 0 ≤ i → i + R.length = n → (∀ q ∈ R, q ∈ zmv T nw) → XA T nw h' → ah_m h' 22 2 = n → XMl T 22 h' R i → (if R.any (fun x => !zcr T (zdo T nw x.1 x.2) && zfn T (zdo T nw x.1 x.2)) = true then 2 else -1) = E → Off Wth h h' → wpB (d + 9) 113 30 [some (.inr (.inr 1)), some (.inl i)] [] h' Q := by
  have hV : isV 22 := by unfold isV; omega
  intro R
  induction R with
  | nil =>
    intro i h' i0 i1 hR hA e2 hx hE hO
    have hK := hA.1
    have hlt : ¬ i < n := by simp at i1; omega
    simp (disch := omega) only [q_113_30, b_113_30, q_113_57, b_113_57, ↓w_iconst, ↓w_aload_n_0, ↓w_iload_n_1, ↓w_getfield, ↓w_ifCond_eq, ↓w_if_icmp_ge, ↓w_ireturn0, ↓w_invokevirtual_1, stw_0, stw_i, stw_l, stw_r, ofK0, ofK1, ofK2, lst1, lst2, lkill, kont_none, kont_some, Int.reduceToNat, List.length_cons, List.length_nil, Nat.reduceAdd, Nat.reduceLeDiff, Nat.zero_le, true_and, and_true, if_true, if_false, ne_eq, Int.reduceEq, Int.reduceNeg, not_false_eq_true, not_true_eq_false, ↓reduceIte, Int.reduceLT, Int.reduceLE, and_self, or_true, true_or, or_false, false_or, false_and, and_false, ah_t_w, ah_m_w, ah_n_w, lst1_0, List.tail_cons, w32_i, zbd, lst2_0, xt_1a hK, xf_1_11 hK, vv_t hK hV, e2, hlt]
    rw [List.any_nil, if_neg (by decide)] at hE
    subst hE
    exact hQ h' hA hO
  | cons q R ih =>
    intro i h' i0 i1 hR hA e2 hx hE hO
    have hK := hA.1
    have hlt : i < n := by simp at i1; omega
    have dis : ∀ r i, Wfb r i → r ≠ 22 ∧ r ≠ 23 ∧ r ≠ 24 := fun r i w => by unfold Wfb Wff Wcp WSs Wmv at w; omega
    have Wok : ∀ r i, Wfb r i → Wth r i := fun r i w => by
      rcases w with w | w | w | w
      · exact Wth_cp r i w
      · rcases w with w | w
        · exact Wth_ss r i w
        · exact Wth_mv (by unfold isV; omega) r i w
      · exact Wth_mv (by unfold isV; omega) r i w
      · exact Wth_mv (by unfold isV; omega) r i w
    rw [q_113_30]
    simp (disch := omega) only [b_113_30, ↓w_iconst, ↓w_aload_n_0, ↓w_iload_n_1, ↓w_getfield, ↓w_ifCond_eq, ↓w_if_icmp_ge, ↓w_ireturn0, ↓w_invokevirtual_1, stw_0, stw_i, stw_l, stw_r, ofK0, ofK1, ofK2, lst1, lst2, lkill, kont_none, kont_some, Int.reduceToNat, List.length_cons, List.length_nil, Nat.reduceAdd, Nat.reduceLeDiff, Nat.zero_le, true_and, and_true, if_true, if_false, ne_eq, Int.reduceEq, Int.reduceNeg, not_false_eq_true, not_true_eq_false, ↓reduceIte, Int.reduceLT, Int.reduceLE, and_self, or_true, true_or, or_false, false_or, false_and, and_false, ah_t_w, ah_m_w, ah_n_w, lst1_0, List.tail_cons, w32_i, zbd, lst2_0, xt_1a hK, xf_1_11 hK, vv_t hK hV, e2, hlt]
    refine c_115 (d := d) hA hX hF (hR q List.mem_cons_self) i0 (by omega) hx.1.1 hx.1.2 (fun h1 hA1 hO1 => ?_)
    have hO1' := Off_tr hO (Off_mono Wok hO1)
    rw [List.any_cons] at hE
    cases g : (!zcr T (zdo T nw q.1 q.2) && zfn T (zdo T nw q.1 q.2)) with
    | true =>
      rw [g, Bool.true_or, if_pos rfl] at hE
      simp (disch := omega) only [b_113_30, ↓w_iconst, ↓w_aload_n_0, ↓w_iload_n_1, ↓w_getfield, ↓w_ifCond_eq, ↓w_if_icmp_ge, ↓w_ireturn0, ↓w_invokevirtual_1, stw_0, stw_i, stw_l, stw_r, ofK0, ofK1, ofK2, lst1, lst2, lkill, kont_none, kont_some, Int.reduceToNat, List.length_cons, List.length_nil, Nat.reduceAdd, Nat.reduceLeDiff, Nat.zero_le, true_and, and_true, if_true, if_false, ne_eq, Int.reduceEq, Int.reduceNeg, not_false_eq_true, not_true_eq_false, ↓reduceIte, Int.reduceLT, Int.reduceLE, and_self, or_true, true_or, or_false, false_or, false_and, and_false, ah_t_w, ah_m_w, ah_n_w, lst1_0, List.tail_cons, w32_i, zbd, lst2_0, zb_t]
      subst hE
      exact hQ h1 hA1 hO1'
    | false =>
      rw [g, Bool.false_or] at hE
      simp (disch := omega) only [b_113_30, q_113_51, b_113_51, ↓w_iconst, ↓w_aload_n_0, ↓w_iload_n_1, ↓w_iinc_1, ↓w_getfield, ↓w_goto, ↓w_ifCond_eq, ↓w_if_icmp_ge, ↓w_ireturn0, ↓w_invokevirtual_1, stw_0, stw_i, stw_l, stw_r, ofK0, ofK1, ofK2, lst1, lst2, lkill, kont_none, kont_some, Int.reduceToNat, List.length_cons, List.length_nil, Nat.reduceAdd, Nat.reduceLeDiff, Nat.zero_le, true_and, and_true, if_true, if_false, ne_eq, Int.reduceEq, Int.reduceNeg, not_false_eq_true, not_true_eq_false, ↓reduceIte, Int.reduceLT, Int.reduceLE, and_self, or_true, true_or, or_false, false_or, false_and, and_false, ah_t_w, ah_m_w, ah_n_w, lst1_0, List.tail_cons, w32_i, zbd, lst2_0, zb_f]
      exact ih (i + 1) h1 (by omega) (by simp at i1; omega) (fun u hu => hR u (List.mem_cons_of_mem _ hu)) hA1 (by rw [hO1.2 _ _ (fun w => (dis _ _ w).1 rfl)]; exact e2) (XMl_off hO1 (fun r i w => ⟨(dis r i w).2.1, (dis r i w).2.2⟩) R (i + 1) hx.2) hE hO1'
theorem c_113 (hA : XA T nw h) (hX : NX T nw) (hF : FV nw) (hQ : ∀ h', XA T nw h' → Off Wth h h' → Q (.inl (some (.inl (zfor T nw (T 1074 4))))) h') : wpC (d + 10) 113 [.inr (.inr 1)] h Q := by
  have h40 := hF.2.2.2
  have hV : isV 22 := by unfold isV; omega
  have hV0 : isV 1020 := by unfold isV; omega
  have hK := hA.1
  have hC := hK.2.2.2.2.2.1
  rw [wpC_B]; refine ⟨⟨Nat.zero_lt_succ _, Nat.le_of_ble_eq_true rfl⟩, ?_⟩; simp only [lent]
  simp (disch := omega) only [q_113_0, b_113_0, ↓w_iconst, ↓w_aload_n_0, ↓w_ifCond_ne, ↓w_ireturn0, ↓w_invokevirtual_0, stw_0, stw_i, stw_l, stw_r, ofK0, ofK1, ofK2, lst1, lst2, lkill, kont_none, kont_some, Int.reduceToNat, List.length_cons, List.length_nil, Nat.reduceAdd, Nat.reduceLeDiff, Nat.zero_le, true_and, and_true, if_true, if_false, ne_eq, Int.reduceEq, Int.reduceNeg, not_false_eq_true, not_true_eq_false, ↓reduceIte, Int.reduceLT, Int.reduceLE, and_self, or_true, true_or, or_false, false_or, false_and, and_false, ah_t_w, ah_m_w, ah_n_w, lst1_0, List.tail_cons, w32_i, zbd, lst2_0, xt_1a hK]
  refine c_108 (d := d + 1) hA hX h40 (fun h1 hA1 hx hlen hO1 => ?_)
  have el := @zav_len T nw
  have hO1' := Off_mono (Wth_mv hV) hO1
  have hK1 := hA1.1
  have hS1 := hA1.2.1
  unfold zfor at hQ
  by_cases g : (zall T nw : Int) = 0
  · have e : T 1074 4 = 0 ∨ (zcr T nw || (zmv T nw).isEmpty) = true := by
      right
      unfold zall at g
      by_cases gc : zcr T nw = true
      · rw [gc]; rfl
      · rw [if_neg gc] at g
        cases hz : zmv T nw with
        | nil => simp
        | cons a b => rw [hz] at g; simp at g; omega
    rw [if_pos e] at hQ
    simp (disch := omega) only [b_113_0, ↓w_iconst, ↓w_aload_n_0, ↓w_ifCond_ne, ↓w_ireturn0, ↓w_invokevirtual_0, stw_0, stw_i, stw_l, stw_r, ofK0, ofK1, ofK2, lst1, lst2, lkill, kont_none, kont_some, Int.reduceToNat, List.length_cons, List.length_nil, Nat.reduceAdd, Nat.reduceLeDiff, Nat.zero_le, true_and, and_true, if_true, if_false, ne_eq, Int.reduceEq, Int.reduceNeg, not_false_eq_true, not_true_eq_false, ↓reduceIte, Int.reduceLT, Int.reduceLE, and_self, or_true, true_or, or_false, false_or, false_and, and_false, ah_t_w, ah_m_w, ah_n_w, lst1_0, List.tail_cons, w32_i, zbd, lst2_0, g]
    exact hQ h1 hA1 hO1'
  · have gc : ¬ zcr T nw = true := fun q => g (by unfold zall; rw [if_pos q]; rfl)
    have ez : zav T nw = zmv T nw := by unfold zav; rw [if_neg gc]
    have e : ¬ (T 1074 4 = 0 ∨ (zcr T nw || (zmv T nw).isEmpty) = true) := by
      intro q
      rw [← el, ez] at g
      rcases q with q | q
      · rw [zmv_0 q] at g; simp at g
      · have gc' : zcr T nw = false := by simpa using gc
        rw [gc', Bool.false_or] at q
        rw [List.isEmpty_iff.1 q] at g; simp at g
    rw [if_neg e] at hQ
    have mv := xf_18_0 hK1
    simp (disch := omega) only [b_113_0, q_113_9, b_113_9, ↓w_iconst, ↓w_aload_n_0, ↓w_getfield, ↓w_aaload, ↓w_ifCond_eq, ↓w_ifCond_ne, ↓w_ireturn0, ↓w_invokevirtual_0, ↓w_invokevirtual_2, stw_0, stw_i, stw_l, stw_r, ofK0, ofK1, ofK2, lst1, lst2, lkill, kont_none, kont_some, Int.reduceToNat, List.length_cons, List.length_nil, Nat.reduceAdd, Nat.reduceLeDiff, Nat.zero_le, true_and, and_true, if_true, if_false, ne_eq, Int.reduceEq, Int.reduceNeg, not_false_eq_true, not_true_eq_false, ↓reduceIte, Int.reduceLT, Int.reduceLE, and_self, or_true, true_or, or_false, false_or, false_and, and_false, ah_t_w, ah_m_w, ah_n_w, lst1_0, List.tail_cons, w32_i, zbd, lst2_0, xt_1a hK1, xf_1_9 hK1, xt_18a hK1, xt_18b hK1, xf_1_12 hK1, g, mv]
    refine c_114 (d := d + 1) hK1 hS1 hX h40 hV0 (fun h2 hK2 hS2 hO2 => ?_)
    have hA2 := XA_mv hA1 h40 hV0 hO2
    have hO2' := Off_tr hO1' (Off_mono (Wth_mv hV0) hO2)
    cases g2 : ztc T nw with
    | true =>
      rw [g2, if_pos rfl] at hQ
      simp (disch := omega) only [b_113_9, ↓w_iconst, ↓w_aload_n_0, ↓w_getfield, ↓w_aaload, ↓w_ifCond_eq, ↓w_ireturn0, ↓w_invokevirtual_2, stw_0, stw_i, stw_l, stw_r, ofK0, ofK1, ofK2, lst1, lst2, lkill, kont_none, kont_some, Int.reduceToNat, List.length_cons, List.length_nil, Nat.reduceAdd, Nat.reduceLeDiff, Nat.zero_le, true_and, and_true, if_true, if_false, ne_eq, Int.reduceEq, Int.reduceNeg, not_false_eq_true, not_true_eq_false, ↓reduceIte, Int.reduceLT, Int.reduceLE, and_self, or_true, true_or, or_false, false_or, false_and, and_false, ah_t_w, ah_m_w, ah_n_w, lst1_0, List.tail_cons, w32_i, zbd, lst2_0, zb_t]
      exact hQ h2 hA2 hO2'
    | false =>
      rw [g2, if_neg (by decide)] at hQ
      simp (disch := omega) only [b_113_9, q_113_28, b_113_28, ↓w_iconst, ↓w_aload_n_0, ↓w_istore_n_1, ↓w_getfield, ↓w_aaload, ↓w_nop, ↓w_ifCond_eq, ↓w_ireturn0, ↓w_invokevirtual_2, stw_0, stw_i, stw_l, stw_r, ofK0, ofK1, ofK2, lst1, lst2, lkill, kont_none, kont_some, Int.reduceToNat, List.length_cons, List.length_nil, Nat.reduceAdd, Nat.reduceLeDiff, Nat.zero_le, true_and, and_true, if_true, if_false, ne_eq, Int.reduceEq, Int.reduceNeg, not_false_eq_true, not_true_eq_false, ↓reduceIte, Int.reduceLT, Int.reduceLE, and_self, or_true, true_or, or_false, false_or, false_and, and_false, ah_t_w, ah_m_w, ah_n_w, lst1_0, List.tail_cons, w32_i, zbd, lst2_0, zb_f]
      rw [ez] at hx hlen
      have hx2 : XM T 22 (zmv T nw) h2 := XM_off hx hO2 (fun r i w w2 => by unfold Wmv at w w2; omega)
      exact l_113 (d := d) hX hF hlen hQ (zmv T nw) 0 h2 (by omega) (by omega) (fun _ u => u) hA2 hx2.1 hx2.2 rfl hO2'
end Z4
