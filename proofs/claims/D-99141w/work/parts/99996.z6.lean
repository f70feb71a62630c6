/-! ===== X: sow ===== -/
/-- the least of harms, place by place as X goes -/
def zmx (T : Int → Int → Int) (hm : Int → Int) : Nat → Int → Int → Int
  | 0, _, b => b
  | j + 1, p, b => zmx T hm j (p + 1) (if p % 5 < T 1074 4 ∧ hm (zk5 T p) < hm b then zk5 T p else b)
section Z6
variable {W : Int → Int → Prop} {d : Nat} {h h' h1 h0 : AH} {Q : QQ} {x y z m k s l w a b v n p r o i f D0 D1 : Int} {S T T' : Int → Int → Int} {t nw nw' pt of tp sr hm : Int → Int} {tl : ALoc} {c : Int × Int × Int}
set_option maxHeartbeats 4000000
theorem zmx_row (hC : 0 < T 1074 4 ∧ T 1074 4 ≤ 5) (y : Int) (J : Nat) : ∀ (u : Nat) (x b : Int), 0 ≤ x → x + u = T 1074 4 → zmx T hm (u + (5 - T 1074 4).toNat + J) (5 * y + x) b = zmx T hm J (5 * (y + 1)) (zmn hm u (T 1074 4 * y + x) b) := by
  intro u
  induction u with
  | zero =>
    intro x b x0 x1
    simp only [zmn, Nat.zero_add]
    have sk : ∀ (w : Nat) (x : Int), T 1074 4 ≤ x → x + w = 5 → zmx T hm (w + J) (5 * y + x) b = zmx T hm J (5 * (y + 1)) b := by
      intro w
      induction w with
      | zero => intro x _ e; rw [Nat.zero_add]; congr 1; omega
      | succ w ih =>
        intro x hx e
        rw [show w + 1 + J = (w + J) + 1 by omega]
        simp only [zmx]
        rw [if_neg (by omega), Int.add_assoc]
        exact ih (x + 1) (by omega) (by omega)
    exact sk _ x (by omega) (by omega)
  | succ u ih =>
    intro x b x0 x1
    rw [show u + 1 + (5 - T 1074 4).toNat + J = (u + (5 - T 1074 4).toNat + J) + 1 by omega]
    have e1 : (5 * y + x) % 5 = x := by omega
    have e2 : (5 * y + x) / 5 = y := by omega
    have ek : zk5 T (5 * y + x) = T 1074 4 * y + x := by unfold zk5; rw [e1, e2]
    simp only [zmx, zmn, e1, ek]
    rw [Int.add_assoc, Int.add_assoc, ih (x + 1) _ (by omega) (by omega)]
    congr 2
    by_cases g : hm (T 1074 4 * y + x) < hm b
    · rw [if_pos ⟨by omega, g⟩, if_pos g]
    · rw [if_neg (fun q => g q.2), if_neg g]
theorem zmn_app : ∀ (a b : Nat) (k z : Int), zmn hm (a + b) k z = zmn hm b (k + a) (zmn hm a k z) := by
  intro a
  induction a with
  | zero => intro b k z; simp [zmn]
  | succ a ih =>
    intro b k z
    rw [show a + 1 + b = (a + b) + 1 by omega]
    simp only [zmn]
    rw [ih, show k + 1 + (a : Int) = k + ((a + 1 : Nat) : Int) by omega]
theorem zmx_all (hC : 0 < T 1074 4 ∧ T 1074 4 ≤ 5) : ∀ (u : Nat) (y b : Int), 0 ≤ y → zmx T hm (5 * u) (5 * y) b = zmn hm (u * (T 1074 4).toNat) (T 1074 4 * y) b := by
  intro u
  induction u with
  | zero => intro y b _; simp [zmx, zmn]
  | succ u ih =>
    intro y b y0
    have := zmx_row (hm := hm) hC y (5 * u) (T 1074 4).toNat 0 b (by omega) (by omega)
    rw [show (T 1074 4).toNat + (5 - T 1074 4).toNat + 5 * u = 5 * (u + 1) by omega, Int.add_zero, Int.add_zero] at this
    rw [this, ih (y + 1) _ (by omega), show (u + 1) * (T 1074 4).toNat = (T 1074 4).toNat + u * (T 1074 4).toNat by rw [Nat.add_mul, Nat.one_mul, Nat.add_comm], zmn_app]
    congr 1
    rw [Int.mul_add, Int.mul_one]; omega
theorem zmx_mn (hC : 2 ≤ T 1074 4 ∧ T 1074 4 ≤ 5) (hR : 2 ≤ T 1074 5 ∧ T 1074 5 ≤ 5) : zmx T hm (5 * T 1074 5 - 1).toNat 1 0 = zmn hm (zP T - 1) 1 0 := by
  have e1 : zmx T hm (5 * T 1074 5).toNat 0 0 = zmx T hm (5 * T 1074 5 - 1).toNat 1 0 := by
    rw [show (5 * T 1074 5).toNat = (5 * T 1074 5 - 1).toNat + 1 by omega]
    simp only [zmx]
    rw [if_neg (by unfold zk5; simp), Int.zero_add]
  have hP : zP T = (T 1074 5).toNat * (T 1074 4).toNat := by unfold zP; rw [Int.mul_comm, Int.toNat_mul (by omega) (by omega)]
  have e2 : zmn hm (zP T) 0 0 = zmn hm (zP T - 1) 1 0 := by
    have : 0 < zP T := by rw [hP]; exact Nat.mul_pos (by omega) (by omega)
    rw [show zP T = (zP T - 1) + 1 by omega]
    simp only [zmn, Nat.add_sub_cancel]
    rw [if_neg (by omega), Int.zero_add]
  rw [← e1, ← e2, hP]
  have := zmx_all (hm := hm) (T := T) (by omega) (T 1074 5).toNat 0 0 (by omega)
  rw [show (5 * T 1074 5).toNat = 5 * (T 1074 5).toNat by omega]
  rw [Int.mul_zero, Int.mul_zero] at this
  exact this
/-- X's harms tell M's -/
def XHr (T : Int → Int → Int) (hm : Int → Int) (B : Int) (h : AH) : Prop := (∀ p, 0 ≤ p → p < 25 → 0 ≤ ah_m h 115 p ∧ ah_m h 115 p ≤ B) ∧ ∀ p, 0 ≤ p → p < 25 → p % 5 < T 1074 4 → p / 5 < T 1074 5 → ah_m h 115 p = hm (zk5 T p)
theorem l_123_24 (hK : XG T h) {a1 : Option AV} (hQ : ∀ h', Off (fun r i => r = 115) h h' → (∀ p, 0 ≤ p → p < 25 → ah_m h' 115 p = 0) → wpB d 123 43 (some (.inr (.inr 1)) :: a1 :: some (.inl w) :: some (.inl 25) :: tl) [] h' Q) :
    ∀ (j : Nat) (p : Int) h', 0 ≤ p → p + j = 25 → Off (fun r i => r = 115) h h' → (∀ u, 0 ≤ u → u < p → ah_m h' 115 u = 0) → wpB d 123 24 (some (.inr (.inr 1)) :: a1 :: some (.inl w) :: some (.inl p) :: tl) [] h' Q := by
  intro j
  induction j with
  | zero =>
    intro p h' p0 p1 hO hu
    have e : p = 25 := by omega
    subst e
    simp (disch := omega) only [q_123_24, b_123_24, ↓w_bipush, ↓w_lconst, ↓w_aload_n_0, ↓w_iload_n_3, ↓w_iinc_3, ↓w_getfield, ↓w_lastore, ↓w_goto, ↓w_if_icmp_ge, stw_0, stw_i, stw_l, stw_r, ofK0, ofK1, ofK2, lst1, lst2, lkill, kont_none, kont_some, Int.reduceToNat, List.length_cons, List.length_nil, Nat.reduceAdd, Nat.reduceLeDiff, Nat.zero_le, true_and, and_true, if_true, if_false, ne_eq, Int.reduceEq, Int.reduceNeg, not_false_eq_true, not_true_eq_false, ↓reduceIte, Int.reduceLT, Int.reduceLE, and_self, or_true, true_or, or_false, false_or, false_and, and_false, ah_t_w, ah_m_w, ah_n_w, lst1_0, List.tail_cons, w32_i, zbd, lst2_0]
    exact hQ h' hO hu
  | succ j ih =>
    intro p h' p0 p1 hO hu
    have hlt : ¬ 25 ≤ p := by omega
    have hlt' : p < 25 := by omega
    have hK' : XG T h' := XG_off hK hO (fun r i w => by unfold fix BRr isS isV; omega)
    rw [q_123_24]
    simp (disch := omega) only [b_123_24, ↓w_bipush, ↓w_lconst, ↓w_aload_n_0, ↓w_iload_n_3, ↓w_iinc_3, ↓w_getfield, ↓w_lastore, ↓w_goto, ↓w_if_icmp_ge, stw_0, stw_i, stw_l, stw_r, ofK0, ofK1, ofK2, lst1, lst2, lkill, kont_none, kont_some, Int.reduceToNat, List.length_cons, List.length_nil, Nat.reduceAdd, Nat.reduceLeDiff, Nat.zero_le, true_and, and_true, if_true, if_false, ne_eq, Int.reduceEq, Int.reduceNeg, not_false_eq_true, not_true_eq_false, ↓reduceIte, Int.reduceLT, Int.reduceLE, and_self, or_true, true_or, or_false, false_or, false_and, and_false, ah_t_w, ah_m_w, ah_n_w, lst1_0, List.tail_cons, w32_i, zbd, lst2_0, xt_1a hK', xf_1_14 hK', xt_115a hK', xt_115b hK', hlt, hlt', p0]
    refine ih (p + 1) _ (by omega) (by omega) (Off_w hO rfl) (fun u u0 u1 => ?_)
    rw [ah_m_w]
    by_cases g : u = p
    · rw [if_pos ⟨rfl, g⟩]
    · rw [if_neg (fun q => g q.2)]; exact hu u u0 (by omega)
/-- one day's harms laid on -/
theorem l_123_74 {tw ck q : Int} (hK : XG T h) (hH : XH T h) (e8 : ah_m h 70 8 = q) (e9 : q ≠ -1 → ah_m h 70 9 = tw) (e10 : q ≠ -1 → ah_m h 70 10 = ck) (e0 : ah_m h 70 0 = n) (hn : 0 ≤ n ∧ n ≤ 6000) (hp : -1 ≤ q ∧ q < 25) (hck : ck = 0 ∨ ck = 1) (htw : 0 ≤ tw ∧ tw ≤ 1000) {B : Int} (hB : 0 ≤ B ∧ B ≤ 100000000) (hb : ∀ p, 0 ≤ p → p < 25 → 0 ≤ ah_m h 115 p ∧ ah_m h 115 p ≤ B) {a1 a3 : Option AV}
    (hQ : ∀ h', Off (fun r i => r = 14 ∨ r = 115) h h' → (∀ p, 0 ≤ p → p < 25 → ah_m h' 115 p = ah_m h 115 p + (if q = -1 then 0 else zharm T tw ck (zoff (p % 5) (p / 5) (q % 5) (q / 5)) (n - 1))) → wpB (d + 42) 123 113 (some (.inr (.inr 1)) :: a1 :: some (.inl w) :: some (.inl k) :: some (.inl 25) :: tl) [] h' Q) :
    ∀ (j : Nat) (p : Int) h', 0 ≤ p → p + j = 25 → Off (fun r i => r = 14 ∨ r = 115) h h' → (∀ u, 0 ≤ u → u < p → ah_m h' 115 u = ah_m h 115 u + (if q = -1 then 0 else zharm T tw ck (zoff (u % 5) (u / 5) (q % 5) (q / 5)) (n - 1))) → (∀ u, p ≤ u → ah_m h' 115 u = ah_m h 115 u) → wpB (d + 42) 123 74 (some (.inr (.inr 1)) :: a1 :: some (.inl w) :: some (.inl k) :: some (.inl p) :: tl) [] h' Q := by
  have ok : ∀ r i, (r = 14 ∨ r = 115) → ¬ fix r i ∧ ¬ BRr r ∧ ¬ (r = 1 ∧ i = 0) := fun r i w => by unfold fix BRr isS isV; omega
  intro j
  induction j with
  | zero =>
    intro p h' p0 p1 hO hu hv
    have e : p = 25 := by omega
    subst e
    simp (disch := omega) only [q_123_74, b_123_74, ↓w_iconst, ↓w_bipush, ↓w_aload_n_0, ↓w_iload_4, ↓w_iinc_4, ↓w_dup2, ↓w_ladd, ↓w_idiv, ↓w_irem, ↓w_i2l, ↓w_getfield, ↓w_laload, ↓w_lastore, ↓w_goto, ↓w_if_icmp_ge, ↓w_invokevirtual_2, stw_0, stw_i, stw_l, stw_r, ofK0, ofK1, ofK2, lst1, lst2, lkill, kont_none, kont_some, Int.reduceToNat, List.length_cons, List.length_nil, Nat.reduceAdd, Nat.reduceLeDiff, Nat.zero_le, true_and, and_true, if_true, if_false, ne_eq, Int.reduceEq, Int.reduceNeg, not_false_eq_true, not_true_eq_false, ↓reduceIte, Int.reduceLT, Int.reduceLE, and_self, or_true, true_or, or_false, false_or, false_and, and_false, ah_t_w, ah_m_w, ah_n_w, lst1_0, List.tail_cons, w32_i, zbd, lst2_0]
    exact hQ h' hO hu
  | succ j ih =>
    intro p h' p0 p1 hO hu hv
    have hlt : ¬ 25 ≤ p := by omega
    have hlt' : p < 25 := by omega
    have hK' : XG T h' := XG_off hK hO ok
    have hH' : XH T h' := XH_off hH hK.2.1 hO (fun r i w => ⟨by omega, (ok r i w).2⟩)
    have t1 := tm5 p0; have t2 := td5 p0
    have eb := hv p (Int.le_refl _)
    have bb := hb p p0 hlt'
    have tS := sz_t hK' is70
    rw [q_123_74]
    simp (disch := omega) only [b_123_74, ↓w_iconst, ↓w_bipush, ↓w_aload_n_0, ↓w_iload_4, ↓w_iinc_4, ↓w_dup2, ↓w_ladd, ↓w_idiv, ↓w_irem, ↓w_i2l, ↓w_getfield, ↓w_laload, ↓w_lastore, ↓w_goto, ↓w_if_icmp_ge, ↓w_invokevirtual_2, stw_0, stw_i, stw_l, stw_r, ofK0, ofK1, ofK2, lst1, lst2, lkill, kont_none, kont_some, Int.reduceToNat, List.length_cons, List.length_nil, Nat.reduceAdd, Nat.reduceLeDiff, Nat.zero_le, true_and, and_true, if_true, if_false, ne_eq, Int.reduceEq, Int.reduceNeg, not_false_eq_true, not_true_eq_false, ↓reduceIte, Int.reduceLT, Int.reduceLE, and_self, or_true, true_or, or_false, false_or, false_and, and_false, ah_t_w, ah_m_w, ah_n_w, lst1_0, List.tail_cons, w32_i, zbd, lst2_0, xt_1a hK', xf_1_14 hK', xt_115a hK', xt_115b hK', xf_1_13 hK', hlt, hlt', p0, t1, t2, eb, tS]
    refine c_232 (d := d) (tw := tw) (ck := ck) (x := p % 5) (y := p / 5) (p := q) (n := n) hK' is70 hH' (by rw [hO.2 _ _ (by omega)]; exact e8) (fun z => by rw [hO.2 _ _ (by omega)]; exact e9 z) (fun z => by rw [hO.2 _ _ (by omega)]; exact e10 z) (by rw [hO.2 _ _ (by omega)]; exact e0) hn hp hck (by omega) (by omega) (fun h2 hK2 hO2 => ?_)
    have hh : 0 ≤ (if q = -1 then 0 else zharm T tw ck (zoff (p % 5) (p / 5) (q % 5) (q / 5)) (n - 1)) ∧ (if q = -1 then 0 else zharm T tw ck (zoff (p % 5) (p / 5) (q % 5) (q / 5)) (n - 1)) ≤ 1000000 := by
      split
      · omega
      · exact zhr_b hK hH htw
    have hO3 : Off (fun r i => r = 14 ∨ r = 115) h h2 := Off_tr hO (Off_mono (fun r i w => Or.inl w) hO2)
    generalize hG : (if q = -1 then 0 else zharm T tw ck (zoff (p % 5) (p / 5) (q % 5) (q / 5)) (n - 1)) = H at *
    simp (disch := omega) only [b_123_74, ↓w_iconst, ↓w_bipush, ↓w_aload_n_0, ↓w_iload_4, ↓w_iinc_4, ↓w_dup2, ↓w_ladd, ↓w_idiv, ↓w_irem, ↓w_i2l, ↓w_getfield, ↓w_laload, ↓w_lastore, ↓w_goto, ↓w_if_icmp_ge, ↓w_invokevirtual_2, stw_0, stw_i, stw_l, stw_r, ofK0, ofK1, ofK2, lst1, lst2, lkill, kont_none, kont_some, Int.reduceToNat, List.length_cons, List.length_nil, Nat.reduceAdd, Nat.reduceLeDiff, Nat.zero_le, true_and, and_true, if_true, if_false, ne_eq, Int.reduceEq, Int.reduceNeg, not_false_eq_true, not_true_eq_false, ↓reduceIte, Int.reduceLT, Int.reduceLE, and_self, or_true, true_or, or_false, false_or, false_and, and_false, ah_t_w, ah_m_w, ah_n_w, lst1_0, List.tail_cons, w32_i, zbd, lst2_0, xt_1a hK2, xf_1_13 hK2, xf_1_14 hK2, xt_115a hK2, xt_115b hK2, w64_i, hlt', p0, xt_115a hK2, xt_115b hK2]
    refine ih (p + 1) _ (by omega) (by omega) (Off_w hO3 (Or.inr rfl)) (fun u u0 u1 => ?_) (fun u u0 => ?_)
    · rw [ah_m_w]
      by_cases g : u = p
      · rw [if_pos ⟨rfl, g⟩, g, hG]
      · rw [if_neg (fun z => g z.2), hO2.2 _ _ (by omega)]; exact hu u u0 (by omega)
    · rw [ah_m_w, if_neg (by omega), hO2.2 _ _ (by omega)]; exact hv u (by omega)
/-- one day by habit, with what it leaves -/
theorem c_228_1 (hZ : isS s) (hK : XG T h) (hS : XS T nw s h) (hX : NX T nw) (hH : XH T h) (hF : FV nw) (hL : LV T) (hd : nw 0 < 5000)
    (hQ : ∀ h' c, c = zto T (T 1074 6) (T 1074 7) nw → XG T h' → XS T (zdy T nw 0 c) s h' → XH T h' → Off (Wdy s) h h' → (ah_m h' s 8 = (if c.1 = -1 then -1 else zp5 T c.2.2) ∧ (c.1 ≠ -1 → ah_m h' s 9 = ztk T nw c.2.2 ∧ ah_m h' s 10 = zck T nw c.2.1 c.2.2)) → Q (.inl (some (.inr (.inr s)))) h') : wpC (d + 45) 228 [.inr (.inr s), .inl 1] h Q := by
  have l1 := hL.1; have l2 := hL.2
  have hside := (NX_N hX).2.2.2
  rw [wpC_B]; refine ⟨⟨Nat.zero_lt_succ _, Nat.le_of_ble_eq_true rfl⟩, ?_⟩; simp only [lent]
  simp (disch := omega) only [q_228_0, b_228_0, ↓w_iconst, ↓w_aload_n_0, ↓w_iload_n_1, ↓w_pop_i, ↓w_pop_a, ↓w_getfield, ↓w_iaload, ↓w_areturn, ↓w_invokevirtual_3, stw_0, stw_i, stw_l, stw_r, ofK0, ofK1, ofK2, lst1, lst2, lkill, kont_none, kont_some, Int.reduceToNat, List.length_cons, List.length_nil, Nat.reduceAdd, Nat.reduceLeDiff, Nat.zero_le, true_and, and_true, if_true, if_false, ne_eq, Int.reduceEq, Int.reduceNeg, not_false_eq_true, not_true_eq_false, ↓reduceIte, Int.reduceLT, Int.reduceLE, and_self, or_true, true_or, or_false, false_or, false_and, and_false, ah_t_w, ah_m_w, ah_n_w, lst1_0, List.tail_cons, w32_i, zbd, lst2_0, xt_1a hK, x_0, xb_t hK, x_lk, xlk_a hK, xlk_b hK, xlk_0 hK, xlk_1 hK, s_t hK hS, s_11 hK hS]
  rw [wpC_B]; refine ⟨⟨Nat.zero_lt_succ _, Nat.le_of_ble_eq_true rfl⟩, ?_⟩; simp only [lent]
  simp (disch := omega) only [q_229_0, b_229_0, ↓w_iconst, ↓w_istore, ↓w_nop, stw_0, stw_i, stw_l, stw_r, ofK0, ofK1, ofK2, lst1, lst2, lkill, kont_none, kont_some, Int.reduceToNat, List.length_cons, List.length_nil, Nat.reduceAdd, Nat.reduceLeDiff, Nat.zero_le, true_and, and_true, if_true, if_false, ne_eq, Int.reduceEq, Int.reduceNeg, not_false_eq_true, not_true_eq_false, ↓reduceIte, Int.reduceLT, Int.reduceLE, and_self, or_true, true_or, or_false, false_or, false_and, and_false, ah_t_w, ah_m_w, ah_n_w, lst1_0, List.tail_cons, w32_i, zbd, lst2_0]
  rw [q_229_6]
  have ht : zcpk T nw (zto T (T 1074 6) (T 1074 7) nw) := zbe_cp
  have best : ∀ D, (1 ≤ D ∧ D ≤ 3) → D = (if nw 1 = 0 then T 1074 6 else T 1074 7) → wpB (d + 43) 229 25 [some (.inr (.inr s)), some (.inl 1), some (.inl (T 1074 6)), some (.inl (T 1074 7)), some (.inl 0), some (.inl 0)] [.inl D, .inr (.inr s)] h (kont (d + 44) 228 [(.pop, 0, 0, []), (.aload_n 0, 0, 0, []), (.areturn, 0, 0, [])] 0 [some (.inr (.inr s)), some (.inl 1)] [] Q) := by
    intro D hD eD
    obtain ⟨u, hu⟩ : ∃ u : Nat, D = u + 1 := ⟨(D - 1).toNat, by omega⟩
    have eto : zto T (T 1074 6) (T 1074 7) nw = zbe T nw u 0 0 := by unfold zto; rw [← eD, hu]; congr 1; omega
    subst hu
    simp (disch := omega) only [q_229_25, b_229_25, ↓w_iconst, ↓w_iload_4, ↓w_iload_6, ↓w_istore, ↓w_goto, ↓w_if_icmp_ne, ↓w_invokevirtual_1, stw_0, stw_i, stw_l, stw_r, ofK0, ofK1, ofK2, lst1, lst2, lkill, kont_none, kont_some, Int.reduceToNat, List.length_cons, List.length_nil, Nat.reduceAdd, Nat.reduceLeDiff, Nat.zero_le, true_and, and_true, if_true, if_false, ne_eq, Int.reduceEq, Int.reduceNeg, not_false_eq_true, not_true_eq_false, ↓reduceIte, Int.reduceLT, Int.reduceLE, and_self, or_true, true_or, or_false, false_or, false_and, and_false, ah_t_w, ah_m_w, ah_n_w, lst1_0, List.tail_cons, w32_i, zbd, lst2_0, s_t hK hS]
    refine wpC_deep (c_227 (d := d) (j := u) (by omega) hK hS hX hF.2.2.2 (fun h2 hK2 hS2 hO2 => ?_)) (by omega)
    rw [← eto]
    have hO2' : Off (Wbe 3 s) h h2 := Off_mono (Wbe_le (by omega)) hO2
    have hH2 := XH_off hH hK.2.1 hO2' (Wbe_H hZ)
    have tS2 := s_t hK2 hS2
    have nxt : ∀ a2 tl2, wpC (d + 43) 230 [.inr (.inr s), .inl (zto T (T 1074 6) (T 1074 7) nw).1] h2 (kont (d + 43) 229 [(.pop, 0, 0, []), (.iinc 5 1, 0, 0, []), (.goto (-50), 6, 0, [])] 0 (some (.inr (.inr s)) :: some (.inl 1) :: some (.inl (T 1074 6)) :: some (.inl (T 1074 7)) :: some (.inl a2) :: some (.inl 0) :: tl2) [] (kont (d + 44) 228 [(.pop, 0, 0, []), (.aload_n 0, 0, 0, []), (.areturn, 0, 0, [])] 0 [some (.inr (.inr s)), some (.inl 1)] [] Q)) := by
      intro a2 tl2
      refine c_230 (d := d) hK2 hS2 hX hH2 hF hd ht (fun h3 hK3 hS3 hH3 hO3 hs => ?_)
      simp (disch := omega) only [q_229_6, b_229_6, q_229_59, b_229_59, b_229_43, b_228_0, ↓w_iconst, ↓w_aload_n_0, ↓w_iload_n_1, ↓w_iload_n_2, ↓w_iload_4, ↓w_iload_5, ↓w_iinc_5, ↓w_iload_6, ↓w_istore, ↓w_pop_i, ↓w_pop_a, ↓w_iadd, ↓w_getfield, ↓w_iaload, ↓w_goto, ↓w_ifCond_ne, ↓w_if_icmp_ge, ↓w_areturn, ↓w_ireturn0, ↓w_invokevirtual_1, ↓w_invokevirtual_3, stw_0, stw_i, stw_l, stw_r, ofK0, ofK1, ofK2, lst1, lst2, lkill, kont_none, kont_some, Int.reduceToNat, List.length_cons, List.length_nil, Nat.reduceAdd, Nat.reduceLeDiff, Nat.zero_le, true_and, and_true, if_true, if_false, ne_eq, Int.reduceEq, Int.reduceNeg, not_false_eq_true, not_true_eq_false, ↓reduceIte, Int.reduceLT, Int.reduceLE, and_self, or_true, true_or, or_false, false_or, false_and, and_false, ah_t_w, ah_m_w, ah_n_w, lst1_0, List.tail_cons, w32_i, zbd, lst2_0, Int.reduceAdd]
      exact hQ h3 _ rfl hK3 hS3 hH3 (Off_tr (Off_mono (fun r i w => Or.inr w) hO2') (Off_mono (fun r i w => Or.inl w) hO3)) hs
    by_cases g : (zto T (T 1074 6) (T 1074 7) nw).1 = -1
    · have nx := nxt 0 [some (.inl (-1))]
      rw [g] at nx
      simp (disch := omega) only [b_229_25, q_229_43, b_229_43, ↓w_iconst, ↓w_aload_n_0, ↓w_iload_4, ↓w_iinc_5, ↓w_iload_6, ↓w_istore, ↓w_pop_i, ↓w_pop_a, ↓w_iadd, ↓w_goto, ↓w_if_icmp_ne, ↓w_invokevirtual_1, stw_0, stw_i, stw_l, stw_r, ofK0, ofK1, ofK2, lst1, lst2, lkill, kont_none, kont_some, Int.reduceToNat, List.length_cons, List.length_nil, Nat.reduceAdd, Nat.reduceLeDiff, Nat.zero_le, true_and, and_true, if_true, if_false, ne_eq, Int.reduceEq, Int.reduceNeg, not_false_eq_true, not_true_eq_false, ↓reduceIte, Int.reduceLT, Int.reduceLE, and_self, or_true, true_or, or_false, false_or, false_and, and_false, ah_t_w, ah_m_w, ah_n_w, lst1_0, List.tail_cons, w32_i, zbd, lst2_0, g, Int.add_zero, tS2]
      exact nx
    · have nx := nxt 1 [some (.inl (zto T (T 1074 6) (T 1074 7) nw).1)]
      simp (disch := omega) only [b_229_25, q_229_42, b_229_42, q_229_43, b_229_43, ↓w_iconst, ↓w_aload_n_0, ↓w_iload_4, ↓w_iinc_5, ↓w_iload_6, ↓w_istore, ↓w_pop_i, ↓w_pop_a, ↓w_iadd, ↓w_nop, ↓w_goto, ↓w_if_icmp_ne, ↓w_invokevirtual_1, stw_0, stw_i, stw_l, stw_r, ofK0, ofK1, ofK2, lst1, lst2, lkill, kont_none, kont_some, Int.reduceToNat, List.length_cons, List.length_nil, Nat.reduceAdd, Nat.reduceLeDiff, Nat.zero_le, true_and, and_true, if_true, if_false, ne_eq, Int.reduceEq, Int.reduceNeg, not_false_eq_true, not_true_eq_false, ↓reduceIte, Int.reduceLT, Int.reduceLE, and_self, or_true, true_or, or_false, false_or, false_and, and_false, ah_t_w, ah_m_w, ah_n_w, lst1_0, List.tail_cons, w32_i, zbd, lst2_0, g, tS2, Int.reduceAdd]
      exact nx
  rcases hside with e | e
  · simp (disch := omega) only [b_229_6, ↓w_aload_n_0, ↓w_iload_n_1, ↓w_iload_n_2, ↓w_iload_5, ↓w_getfield, ↓w_goto, ↓w_ifCond_ne, ↓w_if_icmp_ge, stw_0, stw_i, stw_l, stw_r, ofK0, ofK1, ofK2, lst1, lst2, lkill, kont_none, kont_some, Int.reduceToNat, List.length_cons, List.length_nil, Nat.reduceAdd, Nat.reduceLeDiff, Nat.zero_le, true_and, and_true, if_true, if_false, ne_eq, Int.reduceEq, Int.reduceNeg, not_false_eq_true, not_true_eq_false, ↓reduceIte, Int.reduceLT, Int.reduceLE, and_self, or_true, true_or, or_false, false_or, false_and, and_false, ah_t_w, ah_m_w, ah_n_w, lst1_0, List.tail_cons, w32_i, zbd, lst2_0, s_t hK hS, s_1 hS, e]
    exact best _ (by omega) (by rw [if_pos e])
  · simp (disch := omega) only [b_229_6, q_229_24, b_229_24, ↓w_aload_n_0, ↓w_iload_n_1, ↓w_iload_n_2, ↓w_iload_n_3, ↓w_iload_5, ↓w_getfield, ↓w_nop, ↓w_goto, ↓w_ifCond_ne, ↓w_if_icmp_ge, stw_0, stw_i, stw_l, stw_r, ofK0, ofK1, ofK2, lst1, lst2, lkill, kont_none, kont_some, Int.reduceToNat, List.length_cons, List.length_nil, Nat.reduceAdd, Nat.reduceLeDiff, Nat.zero_le, true_and, and_true, if_true, if_false, ne_eq, Int.reduceEq, Int.reduceNeg, not_false_eq_true, not_true_eq_false, ↓reduceIte, Int.reduceLT, Int.reduceLE, and_self, or_true, true_or, or_false, false_or, false_and, and_false, ah_t_w, ah_m_w, ah_n_w, lst1_0, List.tail_cons, w32_i, zbd, lst2_0, s_t hK hS, s_1 hS, e]
    exact best _ (by omega) (by rw [if_neg (by omega)])
theorem zk5_b (p0 : 0 ≤ p) (h1 : p % 5 < T 1074 4) : zk5 T p % T 1074 4 = p % 5 ∧ zk5 T p / T 1074 4 = p / 5 ∧ 0 ≤ zk5 T p := by
  have hC : 0 < T 1074 4 := by omega
  unfold zk5
  have := Int.mul_nonneg (a := T 1074 4) (b := p / 5) (by omega) (by omega)
  refine ⟨?_, ?_, by omega⟩
  · rw [Int.add_comm, Int.add_mul_emod_self_left, Int.emod_eq_of_lt (by omega) h1]
  · rw [Int.add_comm, Int.add_mul_ediv_left _ _ (by omega), Int.ediv_eq_zero_of_lt (by omega) h1]; omega
theorem zk5_P (p0 : 0 ≤ p) (h1 : p % 5 < T 1074 4) (h2 : p / 5 < T 1074 5) : zk5 T p < zP T := by
  unfold zk5 zP
  have h3 : T 1074 4 * (p / 5 + 1) ≤ T 1074 4 * T 1074 5 := Int.mul_le_mul_of_nonneg_left (by omega) (by omega)
  rw [Int.mul_add, Int.mul_one] at h3
  have := Int.mul_nonneg (a := T 1074 4) (b := T 1074 5) (by omega) (by omega)
  omega
theorem l_123_57 (hX0 : NX T nw) (hF0 : FV nw) (hL : LV T) (hn : n ≤ 20) {HM : Int → Int} (hQ : ∀ h' k tl, XA T nw h' → Off Wth h h' → XHr T HM 20000000 h' → wpB (d + 45) 123 119 (some (.inr (.inr 1)) :: some (.inl n) :: some (.inl w) :: some (.inl k) :: tl) [] h' Q) :
    ∀ (j : Nat) (k : Int) (rX rM hm : Int → Int) tl h', 0 ≤ k → k + j = n → XA T nw h' → XS T rX 70 h' → NE rM rX → NX T rX → FV rX → rX 0 + j ≤ 999 → XHr T hm (1000000 * k) h' → Off Wth h h' → zsw T (T 1074 6) (T 1074 7) j rM hm = HM → wpB (d + 45) 123 57 (some (.inr (.inr 1)) :: some (.inl n) :: some (.inl w) :: some (.inl k) :: tl) [] h' Q := by
  have h40 := hF0.2.2.2
  intro j
  induction j with
  | zero =>
    intro k rX rM hm tl h' k0 k1 hA hS hE hX hF hd hr hO hR
    have hK := hA.1
    have hlt : ¬ k < n := by omega
    simp (disch := omega) only [q_123_57, b_123_57, ↓w_iconst, ↓w_aload_n_0, ↓w_iload_n_1, ↓w_iload_n_3, ↓w_istore, ↓w_pop_i, ↓w_pop_a, ↓w_getfield, ↓w_nop, ↓w_if_icmp_ge, ↓w_invokevirtual_1, stw_0, stw_i, stw_l, stw_r, ofK0, ofK1, ofK2, lst1, lst2, lkill, kont_none, kont_some, Int.reduceToNat, List.length_cons, List.length_nil, Nat.reduceAdd, Nat.reduceLeDiff, Nat.zero_le, true_and, and_true, if_true, if_false, ne_eq, Int.reduceEq, Int.reduceNeg, not_false_eq_true, not_true_eq_false, ↓reduceIte, Int.reduceLT, Int.reduceLE, and_self, or_true, true_or, or_false, false_or, false_and, and_false, ah_t_w, ah_m_w, ah_n_w, lst1_0, List.tail_cons, w32_i, zbd, lst2_0, xt_1a hK, xf_1_13 hK, hlt]
    simp only [zsw] at hR
    subst hR
    exact hQ h' k _ hA hO ⟨fun p a b => by have := hr.1 p a b; omega, hr.2⟩
  | succ j ih =>
    intro k rX rM hm tl h' k0 k1 hA hS hE hX hF hd hr hO hR
    have hK := hA.1
    have n8 := hK.2.2.2.1; have n6 := hK.2.2.2.2.1
    have hC := hK.2.2.2.2.2.1; have hR5 := hK.2.2.2.2.2.2.1
    have d0 := hF.1
    have hlt : k < n := by omega
    have tS := sz_t hK is70
    rw [q_123_57]
    simp (disch := omega) only [b_123_57, ↓w_iconst, ↓w_aload_n_0, ↓w_iload_n_1, ↓w_iload_n_3, ↓w_istore, ↓w_pop_i, ↓w_pop_a, ↓w_getfield, ↓w_nop, ↓w_if_icmp_ge, ↓w_invokevirtual_1, stw_0, stw_i, stw_l, stw_r, ofK0, ofK1, ofK2, lst1, lst2, lkill, kont_none, kont_some, Int.reduceToNat, List.length_cons, List.length_nil, Nat.reduceAdd, Nat.reduceLeDiff, Nat.zero_le, true_and, and_true, if_true, if_false, ne_eq, Int.reduceEq, Int.reduceNeg, not_false_eq_true, not_true_eq_false, ↓reduceIte, Int.reduceLT, Int.reduceLE, and_self, or_true, true_or, or_false, false_or, false_and, and_false, ah_t_w, ah_m_w, ah_n_w, lst1_0, List.tail_cons, w32_i, zbd, lst2_0, xt_1a hK, xf_1_13 hK, hlt, tS]
    refine c_228_1 (d := d) is70 hK hS hX hA.2.2.1 hF hL (by omega) (fun h1 c ec hK1 hS1 hH1 hO1 hs => ?_)
    have ht : zcpk T rX c := by rw [ec]; exact zbe_cp
    have hv := zcpk_v (NX_T hX) ht
    have hO1' := Off_mono Wth_dy hO1
    have hA1 := XA_th hA h40 hO1' hS1.2.2.2.2.2.2
    have hr1 : XHr T hm (1000000 * k) h1 := by
      have e : ∀ p, ah_m h1 115 p = ah_m h' 115 p := fun p => hO1.2 _ _ (fun w => by unfold Wdy Wps Wbe Wva WSs Wmv at w; omega)
      exact ⟨fun p a b => by rw [e]; exact hr.1 p a b, fun p a b c d => by rw [e]; exact hr.2 p a b c d⟩
    simp only [zsw] at hR
    rw [← zto_c n8 hE, ← ec] at hR
    have hE1 := NE_dy n8 n6 hE hF.2.2.1 hX hv
    have hX1 := NX_dy hX hF hv
    have hF1 := FV_dy hX hF hv (by omega)
    have ed := (zdy_i hX hF hv).1
    have s0 : ah_m h1 70 0 = rX 0 + 1 := by rw [s_0 hS1, ed]
    -- behind the laying on
    have fin : ∀ (hm' : Int → Int) h2 tl, Off (fun r i => r = 14 ∨ r = 115) h1 h2 → XHr T hm' (1000000 * (k + 1)) h2 → zsw T (T 1074 6) (T 1074 7) j (zdy T rM 1 c) hm' = HM → wpB (d + 45) 123 113 (some (.inr (.inr 1)) :: some (.inl n) :: some (.inl w) :: some (.inl k) :: tl) [] h2 Q := by
      intro hm' h2 tl hO2 hr2 hR2
      have hO2' : Off Wth h1 h2 := Off_mono (fun r i w => ⟨by omega, by unfold fix isS isV; omega⟩) hO2
      have hA2 := XA_th hA1 h40 hO2' (RP_off hS1.2.2.2.2.2.2 hO2 (fun r i w => by omega))
      have hS2 := XS_off hS1 hF1.2.2.2 hO2 (fun r i w => by omega)
      simp (disch := omega) only [q_123_113, b_123_113, ↓w_iinc_3, ↓w_goto, stw_0, stw_i, stw_l, stw_r, ofK0, ofK1, ofK2, lst1, lst2, lkill, kont_none, kont_some, Int.reduceToNat, List.length_cons, List.length_nil, Nat.reduceAdd, Nat.reduceLeDiff, Nat.zero_le, true_and, and_true, if_true, if_false, ne_eq, Int.reduceEq, Int.reduceNeg, not_false_eq_true, not_true_eq_false, ↓reduceIte, Int.reduceLT, Int.reduceLE, and_self, or_true, true_or, or_false, false_or, false_and, and_false, ah_t_w, ah_m_w, ah_n_w, lst1_0, List.tail_cons, w32_i, zbd, lst2_0]
      exact ih (k + 1) _ _ hm' _ h2 (by omega) (by omega) hA2 hS2 hE1 hX1 hF1 (by rw [ed]; omega) hr2 (Off_tr hO (Off_tr hO1' hO2')) hR2
    simp (disch := omega) only [b_123_57, ↓w_iconst, ↓w_aload_n_0, ↓w_iload_n_1, ↓w_iload_n_3, ↓w_istore, ↓w_pop_i, ↓w_pop_a, ↓w_getfield, ↓w_nop, ↓w_if_icmp_ge, ↓w_invokevirtual_1, stw_0, stw_i, stw_l, stw_r, ofK0, ofK1, ofK2, lst1, lst2, lkill, kont_none, kont_some, Int.reduceToNat, List.length_cons, List.length_nil, Nat.reduceAdd, Nat.reduceLeDiff, Nat.zero_le, true_and, and_true, if_true, if_false, ne_eq, Int.reduceEq, Int.reduceNeg, not_false_eq_true, not_true_eq_false, ↓reduceIte, Int.reduceLT, Int.reduceLE, and_self, or_true, true_or, or_false, false_or, false_and, and_false, ah_t_w, ah_m_w, ah_n_w, lst1_0, List.tail_cons, w32_i, zbd, lst2_0]
    by_cases g : c.1 = -1
    · rw [if_pos g] at hR hs
      refine l_123_74 (d := d + 3) (q := -1) (tw := 0) (ck := 0) (B := 1000000 * k) hK1 hH1 hs.1 (fun z => absurd rfl z) (fun z => absurd rfl z) s0 (by omega) (by omega) (Or.inl rfl) (by omega) (by omega) hr1.1 (a3 := none) (fun h2 hO2 e2 => ?_) 25 0 h1 (by omega) (by omega) Off_rfl (fun u u0 u1 => by omega) (fun u _ => rfl)
      refine fin hm h2 _ hO2 ⟨fun p a b => ?_, fun p a b c d => ?_⟩ hR
      · rw [e2 p a b, if_pos rfl]; have := hr1.1 p a b; omega
      · rw [e2 p a b, if_pos rfl, Int.add_zero]; exact hr1.2 p a b c d
    · rw [if_neg g] at hR
      rw [if_neg g] at hs
      have hs2 := hs.2 g
      rcases hv with u | hv
      · exact absurd u g
      obtain ⟨hh, hG⟩ := id hX
      have hkk := zkk hG hv.2.2.2.1 hv.2.2.2.2
      have hp25 : 0 ≤ zp5 T c.2.2 ∧ zp5 T c.2.2 < 25 := by unfold zp5; omega
      have htk := ztk_b hX hK hv.2.2.2.1 hv.2.2.2.2
      refine l_123_74 (d := d + 3) (q := zp5 T c.2.2) (tw := ztk T rX c.2.2) (ck := zck T rX c.2.1 c.2.2) (B := 1000000 * k) hK1 hH1 hs.1 (fun _ => hs2.1) (fun _ => hs2.2) s0 (by omega) (by omega) zck_b (by omega) (by omega) hr1.1 (a3 := none) (fun h2 hO2 e2 => ?_) 25 0 h1 (by omega) (by omega) Off_rfl (fun u u0 u1 => by omega) (fun u _ => rfl)
      refine fin _ h2 _ hO2 ⟨fun p a b => ?_, fun p a b h3 h4 => ?_⟩ hR
      · rw [e2 p a b, if_neg (by omega)]
        have := hr1.1 p a b
        have hz := zhr_b (a := ztk T rX c.2.2) (b := zck T rX c.2.1 c.2.2) (c := zoff (p % 5) (p / 5) (zp5 T c.2.2 % 5) (zp5 T c.2.2 / 5)) (z := rX 0 + 1 - 1) hK1 hH1 (by omega)
        omega
      · have kb := zk5_b (T := T) a h3
        have kP := zk5_P (T := T) a h3 h4
        rw [e2 p a b, if_neg (by omega), hr1.2 p a b h3 h4]
        unfold zlh
        rw [if_pos ⟨kb.2.2, kP⟩, kb.1, kb.2.1, ← ztk_c n8 hE, ← zck_c n8 hE, ← hE 0 (by omega) (by omega), show rX 0 + 1 - 1 = rX 0 by omega, show zp5 T c.2.2 % 5 = c.2.2 % T 1074 4 by unfold zp5; omega, show zp5 T c.2.2 / 5 = c.2.2 / T 1074 4 by unfold zp5; omega]
theorem l_123_124 (hK : XG T h) (hC2 : 2 ≤ T 1074 4) (hR2 : 2 ≤ T 1074 5) {B : Int} (hr : XHr T hm B h) {E : Int} (hQ : ∀ bx tl, 0 ≤ bx → bx < 25 → bx % 5 < T 1074 4 → bx / 5 < T 1074 5 → zk5 T bx = E → wpB d 123 178 (some (.inr (.inr 1)) :: some (.inl n) :: some (.inl w) :: some (.inl bx) :: tl) [] h Q) :
    ∀ (j : Nat) (p bx : Int) tl, 1 ≤ p → p + j = 5 * T 1074 5 → 0 ≤ bx → bx < 25 → bx % 5 < T 1074 4 → bx / 5 < T 1074 5 → zmx T hm j p (zk5 T bx) = E → wpB d 123 124 (some (.inr (.inr 1)) :: some (.inl n) :: some (.inl w) :: some (.inl bx) :: some (.inl p) :: tl) [] h Q := by
  have hC := hK.2.2.2.2.2.1; have hR5 := hK.2.2.2.2.2.2.1
  intro j
  induction j with
  | zero =>
    intro p bx tl p1 pj b0 b1 b2 b3 hE
    have hlt : ¬ p < 5 * T 1074 5 := by omega
    simp (disch := omega) only [q_123_124, b_123_124, ↓w_iconst, ↓w_aload_n_0, ↓w_iload_n_3, ↓w_iload_4, ↓w_istore_n_3, ↓w_imul, ↓w_lcmp, ↓w_irem, ↓w_getfield, ↓w_laload, ↓w_nop, ↓w_ifCond_ge, ↓w_if_icmp_ge, stw_0, stw_i, stw_l, stw_r, ofK0, ofK1, ofK2, lst1, lst2, lkill, kont_none, kont_some, Int.reduceToNat, List.length_cons, List.length_nil, Nat.reduceAdd, Nat.reduceLeDiff, Nat.zero_le, true_and, and_true, if_true, if_false, ne_eq, Int.reduceEq, Int.reduceNeg, not_false_eq_true, not_true_eq_false, ↓reduceIte, Int.reduceLT, Int.reduceLE, and_self, or_true, true_or, or_false, false_or, false_and, and_false, ah_t_w, ah_m_w, ah_n_w, lst1_0, List.tail_cons, w32_i, zbd, lst2_0, lc_gt, lc_lt, lc_eq, xt_1a hK, x_0, xf_1_14 hK, xt_115a hK, xt_115b hK, xb_t hK, xb_1 hK, xb_2 hK, hlt]
    exact hQ bx _ b0 b1 b2 b3 hE
  | succ j ih =>
    intro p bx tl p1 pj b0 b1 b2 b3 hE
    have hlt : p < 5 * T 1074 5 := by omega
    have p0 : 0 ≤ p := by omega
    have tm := tm5 p0
    have p25 : p < 25 := by omega
    have eb := hr.2 bx b0 b1 b2 b3
    simp only [zmx] at hE
    rw [q_123_124]
    by_cases g : p % 5 < T 1074 4
    · have ep := hr.2 p p0 p25 g (by omega)
      by_cases g2 : hm (zk5 T p) < hm (zk5 T bx)
      · rw [if_pos ⟨g, g2⟩] at hE
        simp (disch := omega) only [b_123_124, q_123_172, b_123_172, ↓w_iconst, ↓w_aload_n_0, ↓w_iload_n_3, ↓w_iload_4, ↓w_iinc_4, ↓w_istore_n_3, ↓w_imul, ↓w_lcmp, ↓w_irem, ↓w_getfield, ↓w_laload, ↓w_nop, ↓w_goto, ↓w_ifCond_ge, ↓w_if_icmp_ge, stw_0, stw_i, stw_l, stw_r, ofK0, ofK1, ofK2, lst1, lst2, lkill, kont_none, kont_some, Int.reduceToNat, List.length_cons, List.length_nil, Nat.reduceAdd, Nat.reduceLeDiff, Nat.zero_le, true_and, and_true, if_true, if_false, ne_eq, Int.reduceEq, Int.reduceNeg, not_false_eq_true, not_true_eq_false, ↓reduceIte, Int.reduceLT, Int.reduceLE, and_self, or_true, true_or, or_false, false_or, false_and, and_false, ah_t_w, ah_m_w, ah_n_w, lst1_0, List.tail_cons, w32_i, zbd, lst2_0, lc_gt, lc_lt, lc_eq, xt_1a hK, x_0, xf_1_14 hK, xt_115a hK, xt_115b hK, xb_t hK, xb_1 hK, xb_2 hK, hlt, tm, g, ep, eb, p0, p25, b0, b1, g2]
        exact ih (p + 1) p _ (by omega) (by omega) p0 p25 g (by omega) hE
      · rw [if_neg (fun q => g2 q.2)] at hE
        simp (disch := omega) only [b_123_124, q_123_172, b_123_172, ↓w_iconst, ↓w_aload_n_0, ↓w_iload_n_3, ↓w_iload_4, ↓w_iinc_4, ↓w_istore_n_3, ↓w_imul, ↓w_lcmp, ↓w_irem, ↓w_getfield, ↓w_laload, ↓w_nop, ↓w_goto, ↓w_ifCond_ge, ↓w_if_icmp_ge, stw_0, stw_i, stw_l, stw_r, ofK0, ofK1, ofK2, lst1, lst2, lkill, kont_none, kont_some, Int.reduceToNat, List.length_cons, List.length_nil, Nat.reduceAdd, Nat.reduceLeDiff, Nat.zero_le, true_and, and_true, if_true, if_false, ne_eq, Int.reduceEq, Int.reduceNeg, not_false_eq_true, not_true_eq_false, ↓reduceIte, Int.reduceLT, Int.reduceLE, and_self, or_true, true_or, or_false, false_or, false_and, and_false, ah_t_w, ah_m_w, ah_n_w, lst1_0, List.tail_cons, w32_i, zbd, lst2_0, lc_gt, lc_lt, lc_eq, xt_1a hK, x_0, xf_1_14 hK, xt_115a hK, xt_115b hK, xb_t hK, xb_1 hK, xb_2 hK, hlt, tm, g, ep, eb, p0, p25, b0, b1, g2]
        exact ih (p + 1) bx _ (by omega) (by omega) b0 b1 b2 b3 hE
    · rw [if_neg (fun q => g q.1)] at hE
      simp (disch := omega) only [b_123_124, q_123_172, b_123_172, ↓w_iconst, ↓w_aload_n_0, ↓w_iload_n_3, ↓w_iload_4, ↓w_iinc_4, ↓w_istore_n_3, ↓w_imul, ↓w_lcmp, ↓w_irem, ↓w_getfield, ↓w_laload, ↓w_nop, ↓w_goto, ↓w_ifCond_ge, ↓w_if_icmp_ge, stw_0, stw_i, stw_l, stw_r, ofK0, ofK1, ofK2, lst1, lst2, lkill, kont_none, kont_some, Int.reduceToNat, List.length_cons, List.length_nil, Nat.reduceAdd, Nat.reduceLeDiff, Nat.zero_le, true_and, and_true, if_true, if_false, ne_eq, Int.reduceEq, Int.reduceNeg, not_false_eq_true, not_true_eq_false, ↓reduceIte, Int.reduceLT, Int.reduceLE, and_self, or_true, true_or, or_false, false_or, false_and, and_false, ah_t_w, ah_m_w, ah_n_w, lst1_0, List.tail_cons, w32_i, zbd, lst2_0, lc_gt, lc_lt, lc_eq, xt_1a hK, x_0, xf_1_14 hK, xt_115a hK, xt_115b hK, xb_t hK, xb_1 hK, xb_2 hK, hlt, tm, g]
      exact ih (p + 1) bx _ (by omega) (by omega) b0 b1 b2 b3 hE
theorem c_123 (hA : XA T nw h) (hX : NX T nw) (hF : FV nw) (hL : 0 < T 1074 4 → LV T ∧ 2 ≤ T 1074 4 ∧ 2 ≤ T 1074 5) (hn : -2147483648 ≤ n ∧ n < 2147483648) (hQ : ∀ h', XA T nw h' → Off Wth h h' → Q (.inl (some (.inl (if (0 < T 1074 4 ∧ (0 ≤ n ∧ n ≤ 20) ∧ nw 0 + n ≤ 999) ∧ (0 ≤ w ∧ w ≤ 2) then zsow T (T 1074 6) (T 1074 7) nw n w else -1)))) h') : wpC (d + 46) 123 [.inr (.inr 1), .inl n, .inl w] h Q := by
  have hK := hA.1
  have hS := hA.2.1
  have hC := hK.2.2.2.2.2.1; have hR5 := hK.2.2.2.2.2.2.1
  rw [wpC_B]; refine ⟨⟨Nat.zero_lt_succ _, Nat.le_of_ble_eq_true rfl⟩, ?_⟩; simp only [lent]
  by_cases g : 0 < T 1074 4 ∧ (0 ≤ n ∧ n ≤ 20) ∧ nw 0 + n ≤ 999
  · by_cases gw : 0 ≤ w ∧ w ≤ 2
    · rw [if_pos ⟨g, gw⟩] at hQ
      obtain ⟨hL1, c2, r2⟩ := hL g.1
      simp (disch := omega) only [q_123_0, b_123_0, q_123_22, b_123_22, ↓w_iconst, ↓w_bipush, ↓w_aload_n_0, ↓w_iload_n_1, ↓w_iload_n_2, ↓w_istore_n_3, ↓w_nop, ↓w_ifCond_eq, ↓w_ifCond_ne, ↓w_invokestatic_3, ↓w_invokevirtual_3, stw_0, stw_i, stw_l, stw_r, ofK0, ofK1, ofK2, lst1, lst2, lkill, kont_none, kont_some, Int.reduceToNat, List.length_cons, List.length_nil, Nat.reduceAdd, Nat.reduceLeDiff, Nat.zero_le, true_and, and_true, if_true, if_false, ne_eq, Int.reduceEq, Int.reduceNeg, not_false_eq_true, not_true_eq_false, ↓reduceIte, Int.reduceLT, Int.reduceLE, and_self, or_true, true_or, or_false, false_or, false_and, and_false, ah_t_w, ah_m_w, ah_n_w, lst1_0, List.tail_cons, w32_i, zbd, lst2_0, xt_1a hK, ahd_1 hA hF hn (Int.le_refl 0) (by decide) g, is_1 gw]
      refine l_123_24 hK (fun h1 hO1 e1 => ?_) 25 0 h (by omega) (by omega) Off_rfl (fun u u0 u1 => by omega)
      have hO1' : Off Wth h h1 := Off_mono (fun r i w => ⟨by omega, by unfold fix isS isV; omega⟩) hO1
      have hA1 := XA_th hA hF.2.2.2 hO1' (RP_off (hA.2.2.2 70 is70) hO1 (fun r i w => by omega))
      have hK1 := hA1.1
      have tS := sz_t hK1 is70
      simp (disch := omega) only [q_123_43, b_123_43, ↓w_iconst, ↓w_aload_n_0, ↓w_istore_n_3, ↓w_pop_i, ↓w_pop_a, ↓w_getfield, ↓w_nop, ↓w_invokevirtual_1, stw_0, stw_i, stw_l, stw_r, ofK0, ofK1, ofK2, lst1, lst2, lkill, kont_none, kont_some, Int.reduceToNat, List.length_cons, List.length_nil, Nat.reduceAdd, Nat.reduceLeDiff, Nat.zero_le, true_and, and_true, if_true, if_false, ne_eq, Int.reduceEq, Int.reduceNeg, not_false_eq_true, not_true_eq_false, ↓reduceIte, Int.reduceLT, Int.reduceLE, and_self, or_true, true_or, or_false, false_or, false_and, and_false, ah_t_w, ah_m_w, ah_n_w, lst1_0, List.tail_cons, w32_i, zbd, lst2_0, xt_1a hK1, xf_1_12 hK1, xf_1_13 hK1, tS]
      refine cpy (d := d + 44) hA1 hF (fun h2 hA2 hS2 hO2 => ?_)
      have hO2' := Off_tr hO1' (Off_mono Wth_cp hO2)
      have h115 : ∀ p, 0 ≤ p → p < 25 → ah_m h2 115 p = 0 := fun p a b => by rw [hO2.2 _ _ (by unfold Wcp; omega)]; exact e1 p a b
      simp (disch := omega) only [b_123_43, ↓w_iconst, ↓w_aload_n_0, ↓w_istore_n_3, ↓w_pop_i, ↓w_pop_a, ↓w_getfield, ↓w_nop, ↓w_invokevirtual_1, stw_0, stw_i, stw_l, stw_r, ofK0, ofK1, ofK2, lst1, lst2, lkill, kont_none, kont_some, Int.reduceToNat, List.length_cons, List.length_nil, Nat.reduceAdd, Nat.reduceLeDiff, Nat.zero_le, true_and, and_true, if_true, if_false, ne_eq, Int.reduceEq, Int.reduceNeg, not_false_eq_true, not_true_eq_false, ↓reduceIte, Int.reduceLT, Int.reduceLE, and_self, or_true, true_or, or_false, false_or, false_and, and_false, ah_t_w, ah_m_w, ah_n_w, lst1_0, List.tail_cons, w32_i, zbd, lst2_0]
      refine l_123_57 (d := d) (HM := zsw T (T 1074 6) (T 1074 7) n.toNat nw (fun _ => 0)) hX hF hL1 (by omega) (fun h3 k tl hA3 hO3 hr3 => ?_) n.toNat 0 nw nw (fun _ => 0) _ h2 (by omega) (by omega) hA2 hS2 NE_rfl hX hF (by omega) ⟨fun p a b => by rw [h115 p a b]; omega, fun p a b _ _ => h115 p a b⟩ hO2' rfl
      have hK3 := hA3.1
      have hQ3 := hQ h3 hA3 hO3
      unfold zsow at hQ3
      generalize hHM : zsw T (T 1074 6) (T 1074 7) n.toNat nw (fun _ => 0) = HM at *
      simp only [] at hQ3
      rw [← zmx_mn (by omega) (by omega)] at hQ3
      generalize hE : zmx T HM (5 * T 1074 5 - 1).toNat 1 0 = E at *
      simp (disch := omega) only [q_123_119, b_123_119, ↓w_iconst, ↓w_istore, ↓w_istore_n_3, ↓w_nop, stw_0, stw_i, stw_l, stw_r, ofK0, ofK1, ofK2, lst1, lst2, lkill, kont_none, kont_some, Int.reduceToNat, List.length_cons, List.length_nil, Nat.reduceAdd, Nat.reduceLeDiff, Nat.zero_le, true_and, and_true, if_true, if_false, ne_eq, Int.reduceEq, Int.reduceNeg, not_false_eq_true, not_true_eq_false, ↓reduceIte, Int.reduceLT, Int.reduceLE, and_self, or_true, true_or, or_false, false_or, false_and, and_false, ah_t_w, ah_m_w, ah_n_w, lst1_0, List.tail_cons, w32_i, zbd, lst2_0]
      have ez : zk5 T 0 = 0 := by unfold zk5; simp
      refine l_123_124 (E := E) hK3 c2 r2 hr3 (fun bx tl b0 b1 b2 b3 eE => ?_) (5 * T 1074 5 - 1).toNat 1 0 _ (by omega) (by omega) (by omega) (by omega) (by omega) (by omega) (by rw [ez]; exact hE)
      have kb := zk5_b (T := T) b0 b2
      rw [eE] at kb
      have tm := tm5 b0; have td := td5 b0
      have eb := hr3.2 bx b0 b1 b2 b3
      rw [eE] at eb
      have bb := hr3.1 bx b0 b1
      rw [eb] at bb
      by_cases w0 : w = 0
      · rw [if_pos w0, kb.1] at hQ3
        simp (disch := omega) only [q_123_178, b_123_178, q_123_212, b_123_212, ↓w_iconst, ↓w_iload_n_2, ↓w_iload_n_3, ↓w_irem, ↓w_goto, ↓w_ifCond_ne, ↓w_ireturn0, stw_0, stw_i, stw_l, stw_r, ofK0, ofK1, ofK2, lst1, lst2, lkill, kont_none, kont_some, Int.reduceToNat, List.length_cons, List.length_nil, Nat.reduceAdd, Nat.reduceLeDiff, Nat.zero_le, true_and, and_true, if_true, if_false, ne_eq, Int.reduceEq, Int.reduceNeg, not_false_eq_true, not_true_eq_false, ↓reduceIte, Int.reduceLT, Int.reduceLE, and_self, or_true, true_or, or_false, false_or, false_and, and_false, ah_t_w, ah_m_w, ah_n_w, lst1_0, List.tail_cons, w32_i, zbd, lst2_0, w0, tm]
        exact hQ3
      · rw [if_neg w0] at hQ3
        by_cases w1 : w = 1
        · rw [if_pos w1, kb.2.1] at hQ3
          simp (disch := omega) only [q_123_178, b_123_178, q_123_188, b_123_188, q_123_212, b_123_212, ↓w_iconst, ↓w_iload_n_2, ↓w_iload_n_3, ↓w_idiv, ↓w_irem, ↓w_goto, ↓w_ifCond_ne, ↓w_if_icmp_ne, ↓w_ireturn0, stw_0, stw_i, stw_l, stw_r, ofK0, ofK1, ofK2, lst1, lst2, lkill, kont_none, kont_some, Int.reduceToNat, List.length_cons, List.length_nil, Nat.reduceAdd, Nat.reduceLeDiff, Nat.zero_le, true_and, and_true, if_true, if_false, ne_eq, Int.reduceEq, Int.reduceNeg, not_false_eq_true, not_true_eq_false, ↓reduceIte, Int.reduceLT, Int.reduceLE, and_self, or_true, true_or, or_false, false_or, false_and, and_false, ah_t_w, ah_m_w, ah_n_w, lst1_0, List.tail_cons, w32_i, zbd, lst2_0, w1, td]
          exact hQ3
        · rw [if_neg w1] at hQ3
          have em : (if HM E < 999999 then HM E else 999999) = (if 999999 < HM E then 999999 else HM E) := by split <;> split <;> omega
          rw [← em] at hQ3
          have bm : -2147483648 ≤ (if HM E < 999999 then HM E else 999999) ∧ (if HM E < 999999 then HM E else 999999) < 2147483648 := by split <;> omega
          simp (disch := omega) only [q_123_178, b_123_178, q_123_188, b_123_188, q_123_199, b_123_199, q_123_212, b_123_212, ↓w_iconst, ↓w_ldc2_w, ↓w_aload_n_0, ↓w_iload_n_2, ↓w_iload_n_3, ↓w_idiv, ↓w_irem, ↓w_l2i, ↓w_getfield, ↓w_laload, ↓w_nop, ↓w_goto, ↓w_ifCond_ne, ↓w_if_icmp_ne, ↓w_ireturn0, ↓w_invokestatic_2, stw_0, stw_i, stw_l, stw_r, ofK0, ofK1, ofK2, lst1, lst2, lkill, kont_none, kont_some, Int.reduceToNat, List.length_cons, List.length_nil, Nat.reduceAdd, Nat.reduceLeDiff, Nat.zero_le, true_and, and_true, if_true, if_false, ne_eq, Int.reduceEq, Int.reduceNeg, not_false_eq_true, not_true_eq_false, ↓reduceIte, Int.reduceLT, Int.reduceLE, and_self, or_true, true_or, or_false, false_or, false_and, and_false, ah_t_w, ah_m_w, ah_n_w, lst1_0, List.tail_cons, w32_i, zbd, lst2_0, xt_1a hK3, xf_1_14 hK3, xt_115a hK3, xt_115b hK3, w0, w1, eb, b0, b1, c_20, w32_i bm.1 bm.2]
          exact hQ3
    · rw [if_neg (fun q => gw q.2)] at hQ
      simp (disch := omega) only [q_123_0, b_123_0, q_123_20, b_123_20, ↓w_iconst, ↓w_bipush, ↓w_aload_n_0, ↓w_iload_n_1, ↓w_iload_n_2, ↓w_nop, ↓w_ifCond_eq, ↓w_ifCond_ne, ↓w_ireturn0, ↓w_invokestatic_3, ↓w_invokevirtual_3, stw_0, stw_i, stw_l, stw_r, ofK0, ofK1, ofK2, lst1, lst2, lkill, kont_none, kont_some, Int.reduceToNat, List.length_cons, List.length_nil, Nat.reduceAdd, Nat.reduceLeDiff, Nat.zero_le, true_and, and_true, if_true, if_false, ne_eq, Int.reduceEq, Int.reduceNeg, not_false_eq_true, not_true_eq_false, ↓reduceIte, Int.reduceLT, Int.reduceLE, and_self, or_true, true_or, or_false, false_or, false_and, and_false, ah_t_w, ah_m_w, ah_n_w, lst1_0, List.tail_cons, w32_i, zbd, lst2_0, xt_1a hK, ahd_1 hA hF hn (Int.le_refl 0) (by decide) g, is_0 gw]
      exact hQ h hA Off_rfl
  · rw [if_neg (fun q => g q.1)] at hQ
    simp (disch := omega) only [q_123_0, b_123_0, q_123_20, b_123_20, ↓w_iconst, ↓w_bipush, ↓w_aload_n_0, ↓w_iload_n_1, ↓w_iload_n_2, ↓w_nop, ↓w_ifCond_eq, ↓w_ifCond_ne, ↓w_ireturn0, ↓w_invokestatic_3, ↓w_invokevirtual_3, stw_0, stw_i, stw_l, stw_r, ofK0, ofK1, ofK2, lst1, lst2, lkill, kont_none, kont_some, Int.reduceToNat, List.length_cons, List.length_nil, Nat.reduceAdd, Nat.reduceLeDiff, Nat.zero_le, true_and, and_true, if_true, if_false, ne_eq, Int.reduceEq, Int.reduceNeg, not_false_eq_true, not_true_eq_false, ↓reduceIte, Int.reduceLT, Int.reduceLE, and_self, or_true, true_or, or_false, false_or, false_and, and_false, ah_t_w, ah_m_w, ah_n_w, lst1_0, List.tail_cons, w32_i, zbd, lst2_0, xt_1a hK, ahd_0 hA hF hn (Int.le_refl 0) (by decide) g]
    exact hQ h hA Off_rfl
end Z6
