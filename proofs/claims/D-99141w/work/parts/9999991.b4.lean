/-! ===== X's reader: word ===== -/
/-- a word read: its text, and that it is new -/
def WRD (p : Int) (w : List Int) (h h' : AH) : Prop := STR h' p w ∧ (ah_n h ≤ p ∧ ah_n h ≤ ah_m h' p 0 ∧ p ≠ ah_m h' p 0) ∧ ah_m h' p 2 = 0 ∧ ah_m h' p 3 = 0
section B4
variable {W W' : Int → Int → Prop} {d : Nat} {h h' h1 h2 h0 : AH} {Q : QQ} {x y z m k s a b c v n p r o i f N lo hi A B E : Int} {S T T' : Int → Int → Int} {t nw nw' pt of tp : Int → Int} {tl : ALoc} {w u l : List Int}
set_option maxHeartbeats 4000000
theorem l_173_32 (hQ : ∀ h', RX t n E h' → Off Wr2 h h' → wpB (d + 2) 173 59 [some (.inr (.inr 11))] [] h' Q) : ∀ (j : Nat) (x : Int) h', 0 ≤ x → x + j = n → RX t n x h' → Off Wr2 h h' → zwf t n j x = E → wpB (d + 2) 173 32 [some (.inr (.inr 11))] [] h' Q := by
  intro j
  induction j with
  | zero =>
    intro x h' x0 x1 hR hO e
    simp only [zwf] at e
    have e2 := hR.2.2.1
    have t11 := r_11 hR.1
    have eB : zB t n x = -1 := zB_o (by omega)
    have eL : zL (-1) = false := by decide
    subst e
    simp (disch := omega) only [q_173_32, b_173_32, ↓w_iconst, ↓w_aload_n_0, ↓w_dup_i, ↓w_dup_a, ↓w_iadd, ↓w_getfield, ↓w_putfield_0, ↓w_goto, ↓w_ifCond_eq, ↓w_invokestatic_1, ↓w_invokevirtual_1, stw_0, stw_i, stw_l, stw_r, ofK0, ofK1, ofK2, lst1, lst2, lkill, kont_none, kont_some, Int.reduceToNat, List.length_cons, List.length_nil, Nat.reduceAdd, Nat.reduceLeDiff, Nat.zero_le, true_and, and_true, if_true, if_false, ne_eq, Int.reduceEq, Int.reduceNeg, not_false_eq_true, not_true_eq_false, ↓reduceIte, Int.reduceLT, Int.reduceLE, and_self, or_true, true_or, or_false, false_or, false_and, and_false, ah_t_w, ah_m_w, ah_n_w, lst1_0, List.tail_cons, w32_i, zbd, lst2_0, c_175 hR, e2, t11, eB, c_90, eL, zb_f]
    exact hQ h' hR hO
  | succ j ih =>
    intro x h' x0 x1 hR hO e
    simp only [zwf] at e
    have e2 := hR.2.2.1
    have t11 := r_11 hR.1
    have n16 := hR.2.2.2.2.1.1.2
    rw [q_173_32]
    cases g : zL (zB t n x) with
    | true =>
      rw [g, if_pos rfl] at e
      have h2 := RX_at hR (v := x + 1) (by omega)
      simp (disch := omega) only [b_173_32, ↓w_iconst, ↓w_aload_n_0, ↓w_dup_i, ↓w_dup_a, ↓w_iadd, ↓w_getfield, ↓w_putfield_0, ↓w_goto, ↓w_ifCond_eq, ↓w_invokestatic_1, ↓w_invokevirtual_1, stw_0, stw_i, stw_l, stw_r, ofK0, ofK1, ofK2, lst1, lst2, lkill, kont_none, kont_some, Int.reduceToNat, List.length_cons, List.length_nil, Nat.reduceAdd, Nat.reduceLeDiff, Nat.zero_le, true_and, and_true, if_true, if_false, ne_eq, Int.reduceEq, Int.reduceNeg, not_false_eq_true, not_true_eq_false, ↓reduceIte, Int.reduceLT, Int.reduceLE, and_self, or_true, true_or, or_false, false_or, false_and, and_false, ah_t_w, ah_m_w, ah_n_w, lst1_0, List.tail_cons, w32_i, zbd, lst2_0, c_175 hR, e2, t11, c_90, g, zb_t]
      exact ih (x + 1) _ (by omega) (by omega) h2.1 (Off_tr hO h2.2) e
    | false =>
      rw [g, if_neg (by decide)] at e
      subst e
      simp (disch := omega) only [b_173_32, ↓w_iconst, ↓w_aload_n_0, ↓w_dup_i, ↓w_dup_a, ↓w_iadd, ↓w_getfield, ↓w_putfield_0, ↓w_goto, ↓w_ifCond_eq, ↓w_invokestatic_1, ↓w_invokevirtual_1, stw_0, stw_i, stw_l, stw_r, ofK0, ofK1, ofK2, lst1, lst2, lkill, kont_none, kont_some, Int.reduceToNat, List.length_cons, List.length_nil, Nat.reduceAdd, Nat.reduceLeDiff, Nat.zero_le, true_and, and_true, if_true, if_false, ne_eq, Int.reduceEq, Int.reduceNeg, not_false_eq_true, not_true_eq_false, ↓reduceIte, Int.reduceLT, Int.reduceLE, and_self, or_true, true_or, or_false, false_or, false_and, and_false, ah_t_w, ah_m_w, ah_n_w, lst1_0, List.tail_cons, w32_i, zbd, lst2_0, c_175 hR, e2, t11, c_90, g, zb_f]
      exact hQ h' hR hO
theorem l_173_76 (hR : RX t n E h) (e3 : ah_m h 11 3 = k) (k0 : 0 ≤ k) (hkE : k ≤ E) (hL : ∀ i, k ≤ i → i < E → 97 ≤ t i ∧ t i ≤ 122) (tA : ah_t h A = (-3, E - k)) (A0 : 1121 ≤ A)
    (hQ : ∀ h', Off (fun r i => r = A) h h' → (∀ i, 0 ≤ i → i < E - k → ah_m h' A i = t (k + i)) → wpB (d + 6) 173 108 [some (.inr (.inr 11)), some (.inr (.inr A)), some (.inl E)] [] h' Q) :
    ∀ (j : Nat) (x : Int) h', k ≤ x → x + j = E → Off (fun r i => r = A) h h' → (∀ i, 0 ≤ i → i < x - k → ah_m h' A i = t (k + i)) → wpB (d + 6) 173 76 [some (.inr (.inr 11)), some (.inr (.inr A)), some (.inl x)] [] h' Q := by
  have hI := hR.1
  have hE := hR.2.2.2.2.2
  have n16 := hR.2.2.2.2.1.1.2
  intro j
  induction j with
  | zero =>
    intro x h' x0 x1 hO hu
    have ex : x = E := by omega
    subst ex
    have t11 : (ah_t h' 11).1 = 4 := by rw [Off_t hO]; exact r_11 hI
    have e2 : ah_m h' 11 2 = x := by rw [hO.2 _ _ (by omega)]; exact hR.2.2.1
    have hlt : ¬ x < x := by omega
    simp (disch := omega) only [q_173_76, b_173_76, ↓w_aload_n_0, ↓w_aload_n_1, ↓w_iload_n_2, ↓w_iinc_2, ↓w_isub, ↓w_i2c, ↓w_getfield, ↓w_baload, ↓w_castore, ↓w_goto, ↓w_if_icmp_ge, stw_0, stw_i, stw_l, stw_r, ofK0, ofK1, ofK2, lst1, lst2, lkill, kont_none, kont_some, Int.reduceToNat, List.length_cons, List.length_nil, Nat.reduceAdd, Nat.reduceLeDiff, Nat.zero_le, true_and, and_true, if_true, if_false, ne_eq, Int.reduceEq, Int.reduceNeg, not_false_eq_true, not_true_eq_false, ↓reduceIte, Int.reduceLT, Int.reduceLE, and_self, or_true, true_or, or_false, false_or, false_and, and_false, ah_t_w, ah_m_w, ah_n_w, lst1_0, List.tail_cons, w32_i, zbd, lst2_0, t11, e2, hlt]
    exact hQ h' hO hu
  | succ j ih =>
    intro x h' x0 x1 hO hu
    have t11 : (ah_t h' 11).1 = 4 := by rw [Off_t hO]; exact r_11 hI
    have t1 : (ah_t h' 1).1 = 1 := by rw [Off_t hO]; exact r_1 hI
    have t10a : (ah_t h' 10).1 = -2 := by rw [Off_t hO]; exact r_10a hI
    have t10b : (ah_t h' 10).2 = 1600 := by rw [Off_t hO]; exact r_10b hI
    have e2 : ah_m h' 11 2 = E := by rw [hO.2 _ _ (by omega)]; exact hR.2.2.1
    have e3' : ah_m h' 11 3 = k := by rw [hO.2 _ _ (by omega)]; exact e3
    have e7 : ah_m h' 11 7 = 1 := by rw [hO.2 _ _ (by omega)]; exact r_11_7 hI
    have e11 : ah_m h' 1 1 = 10 := by rw [hO.2 _ _ (by omega)]; exact r_1_1 hI
    have hlt : x < E := by omega
    have hb := hL x x0 hlt
    have ht := hR.2.2.2.1 x (by omega) (by omega)
    have ex : ah_m h' 10 x = t x := by rw [hO.2 _ _ (by omega)]; omega
    have tAa : (ah_t h' A).1 = -3 := by rw [Off_t hO, tA]
    have tAb : (ah_t h' A).2 = E - k := by rw [Off_t hO, tA]
    have b0 : 0 ≤ x := by omega
    have b1 : x < 1600 := by omega
    have b2 : 0 ≤ x - k := by omega
    have b3 : x - k < E - k := by omega
    have A1 : 0 < A := by omega
    have w1 : w16 (t x) = t x := by unfold w16; omega
    rw [q_173_76]
    simp (disch := omega) only [b_173_76, ↓w_aload_n_0, ↓w_aload_n_1, ↓w_iload_n_2, ↓w_iinc_2, ↓w_isub, ↓w_i2c, ↓w_getfield, ↓w_baload, ↓w_castore, ↓w_goto, ↓w_if_icmp_ge, stw_0, stw_i, stw_l, stw_r, ofK0, ofK1, ofK2, lst1, lst2, lkill, kont_none, kont_some, Int.reduceToNat, List.length_cons, List.length_nil, Nat.reduceAdd, Nat.reduceLeDiff, Nat.zero_le, true_and, and_true, if_true, if_false, ne_eq, Int.reduceEq, Int.reduceNeg, not_false_eq_true, not_true_eq_false, ↓reduceIte, Int.reduceLT, Int.reduceLE, and_self, or_true, true_or, or_false, false_or, false_and, and_false, ah_t_w, ah_m_w, ah_n_w, lst1_0, List.tail_cons, w32_i, zbd, lst2_0, t11, t1, t10a, t10b, e2, e3', e7, e11, hlt, ex, tAa, tAb, b0, b1, b2, b3, A1, w1]
    refine ih (x + 1) _ (by omega) (by omega) (Off_w hO rfl) (fun i i0 i1 => ?_)
    rw [ah_m_w]
    by_cases q : i = x - k
    · rw [if_pos ⟨rfl, q⟩, q]; congr 1; omega
    · rw [if_neg (fun z => q z.2)]; exact hu i i0 (by omega)
theorem zwe_L (k0 : 0 ≤ k) (h1 : k ≤ n) : ∀ i, k ≤ i → i < zwe t n k → 97 ≤ t i ∧ t i ≤ 122 := fun i a b => by
  have hl := zwe_le (t := t) h1
  have := zwf_L (t := t) (n := n) (n - k).toNat k i a b
  rw [zB_i (by omega) (by omega)] at this
  exact of_decide_eq_true this
theorem c_173 (hR : RX t n k h) (hQ0 : ∀ h', zwb t n (zsk t n k) = false → RX t n (zsk t n k) h' → Off Wnm h h' → BXx 1 (zsk t n k) h' → Q (.inr 12) h')
    (hQ1 : ∀ h' p, zwb t n (zsk t n k) = true → RX t n (zwe t n (zsk t n k)) h' → Ext Wnm h h' → ah_m h' 11 3 = zsk t n k → WRD p (zsub t (zsk t n k) (zwe t n (zsk t n k) - zsk t n k).toNat) h h' → ah_n h' = ah_n h + 3 → ah_s h' = ah_s h + 4 + 2 * (zwe t n (zsk t n k) - zsk t n k) → Q (.inl (some (.inr (.inr p)))) h') : wpC (d + 7) 173 [.inr (.inr 11)] h Q := by
  have t11 := r_11 hR.1
  have hk := hR.2.2.2.2.2
  have hsk := zsk_le (t := t) hk.2
  have n16 := hR.2.2.2.2.1.1.2
  have W1 : ∀ r i, Wr2 r i → Wnm r i := fun r i w => Or.inl ⟨w.1, Or.inl w.2⟩
  have W2 : ∀ r i, W12 r i → Wnm r i := fun r i w => Or.inr w
  rw [wpC_B]; refine ⟨⟨Nat.zero_lt_succ _, Nat.le_of_ble_eq_true rfl⟩, ?_⟩; simp only [lent]
  simp (disch := omega) only [q_173_0, b_173_0, ↓w_iconst, ↓w_aload_n_0, ↓w_getfield, ↓w_ifCond_ne, ↓w_athrow, ↓w_invokevirtual_0, ↓w_invokestatic_1, ↓w_invokevirtual_2, stw_0, stw_i, stw_l, stw_r, ofK0, ofK1, ofK2, lst1, lst2, lkill, kont_none, kont_some, Int.reduceToNat, List.length_cons, List.length_nil, Nat.reduceAdd, Nat.reduceLeDiff, Nat.zero_le, true_and, and_true, if_true, if_false, ne_eq, Int.reduceEq, Int.reduceNeg, not_false_eq_true, not_true_eq_false, ↓reduceIte, Int.reduceLT, Int.reduceLE, and_self, or_true, true_or, or_false, false_or, false_and, and_false, ah_t_w, ah_m_w, ah_n_w, lst1_0, List.tail_cons, w32_i, zbd, lst2_0, t11]
  refine c_174 (d := d + 4) hR (fun h1 hR1 hO1 => ?_)
  generalize hp : zsk t n k = p0 at *
  have t11' := r_11 hR1.1
  have e2 := hR1.2.2.1
  cases g : zL (zB t n p0) with
  | false =>
    simp (disch := omega) only [b_173_0, ↓w_iconst, ↓w_aload_n_0, ↓w_getfield, ↓w_ifCond_ne, ↓w_athrow, ↓w_invokevirtual_0, ↓w_invokestatic_1, ↓w_invokevirtual_2, stw_0, stw_i, stw_l, stw_r, ofK0, ofK1, ofK2, lst1, lst2, lkill, kont_none, kont_some, Int.reduceToNat, List.length_cons, List.length_nil, Nat.reduceAdd, Nat.reduceLeDiff, Nat.zero_le, true_and, and_true, if_true, if_false, ne_eq, Int.reduceEq, Int.reduceNeg, not_false_eq_true, not_true_eq_false, ↓reduceIte, Int.reduceLT, Int.reduceLE, and_self, or_true, true_or, or_false, false_or, false_and, and_false, ah_t_w, ah_m_w, ah_n_w, lst1_0, List.tail_cons, w32_i, zbd, lst2_0, c_90, g, zb_f, t11', e2]
    exact thrw (d := d + 5) hR1 (fun h2 hR2 hO2 hb => hQ0 h2 (by unfold zwb; rw [g]; rfl) hR2 (Off_tr (Off_mono W1 hO1) (Off_mono W2 hO2)) hb)
  | true =>
    simp (disch := omega) only [b_173_0, q_173_20, b_173_20, ↓w_iconst, ↓w_aload_n_0, ↓w_getfield, ↓w_putfield_0, ↓w_nop, ↓w_ifCond_ne, ↓w_athrow, ↓w_invokevirtual_0, ↓w_invokestatic_1, ↓w_invokevirtual_2, stw_0, stw_i, stw_l, stw_r, ofK0, ofK1, ofK2, lst1, lst2, lkill, kont_none, kont_some, Int.reduceToNat, List.length_cons, List.length_nil, Nat.reduceAdd, Nat.reduceLeDiff, Nat.zero_le, true_and, and_true, if_true, if_false, ne_eq, Int.reduceEq, Int.reduceNeg, not_false_eq_true, not_true_eq_false, ↓reduceIte, Int.reduceLT, Int.reduceLE, and_self, or_true, true_or, or_false, false_or, false_and, and_false, ah_t_w, ah_m_w, ah_n_w, lst1_0, List.tail_cons, w32_i, zbd, lst2_0, c_90, g, zb_t, t11', e2]
    refine c_177 (d := d + 4) hR1 (fun h2 e hR2 hO2 hb => ?_) (fun e => ?_)
    · rw [kont_0]
      exact hQ0 h2 (by unfold zwb; rw [g, e]; rfl) hR2 (Off_tr (Off_mono W1 hO1) (Off_mono W2 hO2)) hb
    · have ewb : zwb t n p0 = true := by unfold zwb; rw [g, e]; rfl
      have h2 := RX_fr hR1 (i := 3) (v := p0) (by omega)
      have hO2 : Off Wnm h (ah_w h1 11 3 p0) := Off_tr (Off_mono W1 hO1) (Off_mono (fun r i w => Or.inl ⟨w.1, Or.inr w.2⟩) h2.2)
      simp (disch := omega) only [b_173_20, ↓w_aload_n_0, ↓w_getfield, ↓w_putfield_0, ↓w_nop, ↓w_invokevirtual_0, stw_0, stw_i, stw_l, stw_r, ofK0, ofK1, ofK2, lst1, lst2, lkill, kont_none, kont_some, Int.reduceToNat, List.length_cons, List.length_nil, Nat.reduceAdd, Nat.reduceLeDiff, Nat.zero_le, true_and, and_true, if_true, if_false, ne_eq, Int.reduceEq, Int.reduceNeg, not_false_eq_true, not_true_eq_false, ↓reduceIte, Int.reduceLT, Int.reduceLE, and_self, or_true, true_or, or_false, false_or, false_and, and_false, ah_t_w, ah_m_w, ah_n_w, lst1_0, List.tail_cons, w32_i, zbd, lst2_0, t11', e2]
      have hwl := zwe_le (t := t) (n := n) (k := p0) (by omega)
      have hlt : p0 < zwe t n p0 := by
        have hpn : p0 < n := by
          by_cases q : p0 < n
          · exact q
          · rw [zB_o (by omega)] at g; exact absurd g (by decide)
        unfold zwe
        rw [show (n - p0).toNat = ((n - p0).toNat - 1) + 1 by omega]
        simp only [zwf]
        rw [if_pos g]
        have := (zwf_le (t := t) (n := n) ((n - p0).toNat - 1) (p0 + 1)).1
        omega
      refine l_173_32 (d := d + 4) (h := ah_w h1 11 3 p0) (E := zwe t n p0) (fun h3 hR3 hO3 => ?_) (n - p0).toNat p0 _ (by omega) (by omega) h2.1 Off_rfl rfl
      have e33 : ah_m h3 11 3 = p0 := by rw [hO3.2 _ _ (by unfold Wr2; omega), ah_m_w, if_pos ⟨rfl, rfl⟩]
      have hO3' : Off Wnm h h3 := Off_tr hO2 (Off_mono W1 hO3)
      have t3 := r_11 hR3.1
      have e23 := hR3.2.2.1
      have LL := zwe_L (t := t) (n := n) (k := p0) (by omega) (by omega)
      generalize hE : zwe t n p0 = E at *
      have b0 : 0 ≤ E - p0 := by omega
      have b1 : E - p0 ≤ 100000 := by omega
      have n3 := hR3.1.2.1.1
      simp (disch := omega) only [q_173_59, b_173_59, ↓w_aload_n_0, ↓w_istore_n_2, ↓w_astore_n_1, ↓w_isub, ↓w_getfield, ↓w_newarray, ↓w_nop, stw_0, stw_i, stw_l, stw_r, ofK0, ofK1, ofK2, lst1, lst2, lkill, kont_none, kont_some, Int.reduceToNat, List.length_cons, List.length_nil, Nat.reduceAdd, Nat.reduceLeDiff, Nat.zero_le, true_and, and_true, if_true, if_false, ne_eq, Int.reduceEq, Int.reduceNeg, not_false_eq_true, not_true_eq_false, ↓reduceIte, Int.reduceLT, Int.reduceLE, and_self, or_true, true_or, or_false, false_or, false_and, and_false, ah_t_w, ah_m_w, ah_n_w, lst1_0, List.tail_cons, w32_i, zbd, lst2_0, t3, e23, e33, b0, b1]
      simp only [arrT]
      have hA : ah_n h3 = ah_n h := Off_n hO3'
      have hE4 : Ext Wnm h3 (ah_new h3 (-3, E - p0) (E - p0)) := Ext_new Ext_rfl b0
      have tA : ah_t (ah_new h3 (-3, E - p0) (E - p0)) (ah_n h3) = (-3, E - p0) := by rw [ah_t_new, if_pos rfl]
      have n4 : ah_n (ah_new h3 (-3, E - p0) (E - p0)) = ah_n h3 + 1 := ah_n_new
      have s4 : ah_s (ah_new h3 (-3, E - p0) (E - p0)) = ah_s h3 + (E - p0) := ah_s_new
      have x4 : ∀ r i, r < ah_n h3 → ah_m (ah_new h3 (-3, E - p0) (E - p0)) r i = ah_m h3 r i := fun r i q => by rw [ah_m_new, if_neg (by omega)]
      have hR4 : RX t n E (ah_new h3 (-3, E - p0) (E - p0)) := RX_ext hR3 hE4 (fun r i w => Wrd_x r i (Wnm_d r i w)) (by rw [x4 _ _ (by omega)]; exact e23) hR3.2.2.2.2.2
      generalize hg4 : ah_new h3 (-3, E - p0) (E - p0) = g4 at *
      have e34 : ah_m g4 11 3 = p0 := by rw [x4 _ _ (by omega)]; exact e33
      have t4 := r_11 hR4.1
      have e44 : ah_m g4 11 3 = p0 := e34
      simp (disch := omega) only [b_173_59, ↓w_aload_n_0, ↓w_istore_n_2, ↓w_astore_n_1, ↓w_isub, ↓w_getfield, ↓w_newarray, ↓w_nop, stw_0, stw_i, stw_l, stw_r, ofK0, ofK1, ofK2, lst1, lst2, lkill, kont_none, kont_some, Int.reduceToNat, List.length_cons, List.length_nil, Nat.reduceAdd, Nat.reduceLeDiff, Nat.zero_le, true_and, and_true, if_true, if_false, ne_eq, Int.reduceEq, Int.reduceNeg, not_false_eq_true, not_true_eq_false, ↓reduceIte, Int.reduceLT, Int.reduceLE, and_self, or_true, true_or, or_false, false_or, false_and, and_false, ah_t_w, ah_m_w, ah_n_w, lst1_0, List.tail_cons, w32_i, zbd, lst2_0, t4, e44]
      refine l_173_76 (d := d) hR4 e34 (by omega) (by omega) LL tA (by omega) (fun h5 hO5 e5 => ?_) (E - p0).toNat p0 g4 (by omega) (by omega) Off_rfl (fun i i0 i1 => by omega)
      have hE5 : Ext Wnm h h5 := Ext_tr' (Ext_tr (Ext_off hO3') hE4) (Ext_off hO5) (fun r i w => Or.inr (by omega))
      have hF5 : FRE h5 := FRE_ext hR.1.2.1 hE5
      have zl := zsub_len (t := t) (E - p0).toNat p0
      have t5 : ah_t h5 (ah_n h3) = (-3, ((zsub t p0 (E - p0).toNat).length : Int)) := by rw [Off_t hO5, tA, zl]; congr 1; omega
      simp (disch := omega) only [q_173_108, b_173_108, ↓w_aload_n_1, ↓w_areturn, ↓w_invokestatic_1, stw_0, stw_i, stw_l, stw_r, ofK0, ofK1, ofK2, lst1, lst2, lkill, kont_none, kont_some, Int.reduceToNat, List.length_cons, List.length_nil, Nat.reduceAdd, Nat.reduceLeDiff, Nat.zero_le, true_and, and_true, if_true, if_false, ne_eq, Int.reduceEq, Int.reduceNeg, not_false_eq_true, not_true_eq_false, ↓reduceIte, Int.reduceLT, Int.reduceLE, and_self, or_true, true_or, or_false, false_or, false_and, and_false, ah_t_w, ah_m_w, ah_n_w, lst1_0, List.tail_cons, w32_i, zbd, lst2_0]
      refine c_53 (d := d + 1) (w := zsub t p0 (E - p0).toNat) hF5 t5 (fun i q => ?_) (by rw [zl]; omega) (by rw [zl]; omega) (fun h6 hs hE6 n6 s6 m0 m2 m3 => ?_)
      · rw [zl] at q
        have l1 := LL (p0 + i) (by omega) (by omega)
        rw [zsub_get _ _ _ q, e5 i (by omega) (by omega)]
        exact ⟨rfl, by omega, by omega⟩
      · have hn5 : ah_n h5 = ah_n h + 1 := by rw [Off_n hO5, n4, hA]
        have hE7 : Ext Wnm h h6 := Ext_tr hE5 (Ext_mono (fun r i w => w.elim) hE6)
        simp (disch := omega) only [b_173_108, ↓w_aload_n_1, ↓w_areturn, ↓w_invokestatic_1, stw_0, stw_i, stw_l, stw_r, ofK0, ofK1, ofK2, lst1, lst2, lkill, kont_none, kont_some, Int.reduceToNat, List.length_cons, List.length_nil, Nat.reduceAdd, Nat.reduceLeDiff, Nat.zero_le, true_and, and_true, if_true, if_false, ne_eq, Int.reduceEq, Int.reduceNeg, not_false_eq_true, not_true_eq_false, ↓reduceIte, Int.reduceLT, Int.reduceLE, and_self, or_true, true_or, or_false, false_or, false_and, and_false, ah_t_w, ah_m_w, ah_n_w, lst1_0, List.tail_cons, w32_i, zbd, lst2_0]
        refine hQ1 h6 (ah_n h5) ewb (RX_ext hR hE7 (fun r i w => Wrd_x r i (Wnm_d r i w)) ?_ (by omega)) hE7 ?_ ⟨hs, ⟨by omega, by omega, by omega⟩, m2, m3⟩ (by omega) ?_
        · rw [hE6.2.2 _ _ (by omega) (fun w => w), hO5.2 _ _ (by omega), x4 _ _ (by omega)]; exact e23
        · rw [hE6.2.2 _ _ (by omega) (fun w => w), hO5.2 _ _ (by omega)]; exact e34
        · rw [s6, Off_s hO5, s4, Off_s hO3', zl]; omega
end B4
