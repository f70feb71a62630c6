/-! ===== X's reader: heaps that grow; the tape ===== -/
def FRE (h : AH) : Prop := 1121 ≤ ah_n h ∧ ∀ r, ah_n h ≤ r → ah_t h r = (0, 0)
/-- a heap that grew: old rows stay but for W -/
def Ext (W : Int → Int → Prop) (h h' : AH) : Prop := (ah_n h ≤ ah_n h' ∧ ah_s h ≤ ah_s h') ∧ (∀ r, r < ah_n h ∨ ah_n h' ≤ r → ah_t h' r = ah_t h r) ∧ ∀ r i, r < ah_n h → ¬ W r i → ah_m h' r i = ah_m h r i
/-- a text in the heap -/
def STR (h : AH) (p : Int) (w : List Int) : Prop := (ah_t h p).1 = 10 ∧ ah_m h p 1 = 0 ∧ ah_t h (ah_m h p 0) = (-2, (w.length : Int)) ∧ ∀ i : Nat, i < w.length → ah_m h (ah_m h p 0) i = w.getD i 0
def conS : List (Int × List Int) := (-10, [116, 97, 107, 101, 110]) :: (-12, [99, 104, 101, 99, 107]) :: (-14, [111, 102, 102]) :: (-16, [100, 97, 121]) :: (-18, [110, 117, 109, 98, 101, 114]) :: (-20, [99, 111, 108, 117, 109, 110]) :: (-22, [114, 111, 119]) :: (-24, [115, 105, 100, 101]) :: (-26, [119, 111, 114, 116, 104]) :: (-28, [114, 101, 97, 99, 104]) :: (-30, [109, 111, 118, 101, 115]) :: (-32, [102, 105, 114, 115, 116]) :: (-34, [108, 97, 115, 116]) :: (-36, [111, 102, 116, 101, 110]) :: (-38, [116, 111, 116, 97, 108]) :: (-40, [109, 111, 115, 116]) :: (-42, [108, 101, 97, 115, 116]) :: (-44, [98, 111, 97, 114, 100]) :: (-46, [98, 121]) :: (-48, [119, 104, 105, 116, 101]) :: (-50, [98, 108, 97, 99, 107]) :: (-52, [107, 105, 110, 100]) :: (-54, [119, 97, 121, 115]) :: (-56, [99, 114, 111, 119, 110]) :: (-58, [109, 97, 110]) :: (-60, [105, 115]) :: (-62, [111, 102]) :: (-64, [97, 116]) :: (-66, [102, 105, 101, 108, 100]) :: (-68, [98, 101, 97, 114, 115]) :: (-70, [104, 97, 114, 109]) :: (-72, [103, 114, 111, 119, 115]) :: (-74, [115, 108, 101, 101, 112, 121]) :: (-76, [111, 114]) :: (-78, [97, 110, 100]) :: (-80, [110, 111, 116]) :: (-82, [97, 108, 108]) :: (-84, [109, 105, 110]) :: (-86, [109, 97, 120]) :: []
def conA : List (Int × List Int) := (-300, [-44, -46, -48, -50, -52, -54, -28, -26, -56, -58, -60, -62, -64, -66, -68, -70, -72, -74, -10, -12, -14, -16, -18, -20, -22, -24, -30, -76, -78, -80, -82, -84, -86]) :: (-301, [-10, -12, -14, -16, -18, -20, -22, -24, -26, -28, -30]) :: (-302, [-14]) :: (-303, [-32, -34, -36, -38, -40, -42]) :: []
/-- the constants -/
def CON (h : AH) : Prop := (∀ p ∈ conS, STR h p.1 p.2 ∧ ah_m h p.1 0 = p.1 - 1) ∧ ∀ p ∈ conA, ah_t h p.1 = (-14, (p.2.length : Int)) ∧ ∀ i : Nat, i < p.2.length → ah_m h p.1 i = p.2.getD i 0
def RXI (h : AH) : Prop := XI h ∧ FRE h ∧ CON h
/-- X reads: the tape, its end, where -/
def RX (t : Int → Int) (n k : Int) (h : AH) : Prop := RXI h ∧ ah_m h 11 1 = n ∧ ah_m h 11 2 = k ∧ XTp t n h ∧ TPV t n ∧ (0 ≤ k ∧ k ≤ n)
def Wr2 (r i : Int) : Prop := r = 11 ∧ i = 2
def Wrd (r i : Int) : Prop := (r = 11 ∧ (i = 2 ∨ i = 3 ∨ i = 4)) ∨ (r = 12 ∧ (i = 6 ∨ i = 7))
section B1
variable {W W' : Int → Int → Prop} {d : Nat} {h h' h1 h2 h0 : AH} {Q : QQ} {x y z m k s w a b v n p r o i f N : Int} {S T T' : Int → Int → Int} {t nw nw' pt of tp : Int → Int} {tl : ALoc} {l : List Int}
set_option maxHeartbeats 4000000
theorem Ext_rfl : Ext W h h := ⟨⟨Int.le_refl _, Int.le_refl _⟩, fun _ _ => rfl, fun _ _ _ _ => rfl⟩
theorem Ext_tr (a : Ext W h h1) (b : Ext W h1 h2) : Ext W h h2 := by
  obtain ⟨a1, a2, a3⟩ := a
  obtain ⟨b1, b2, b3⟩ := b
  refine ⟨⟨by omega, by omega⟩, fun r q => ?_, fun r i q w => ?_⟩
  · rw [b2 r (by omega), a2 r (by omega)]
  · rw [b3 r i (by omega) w, a3 r i q w]
theorem Ext_mono (hW : ∀ r i, W r i → W' r i) (a : Ext W h h') : Ext W' h h' := ⟨a.1, a.2.1, fun r i q w => a.2.2 r i q (fun u => w (hW r i u))⟩
theorem Ext_off (a : Off W h h') : Ext W h h' := ⟨⟨by rw [Off_n a]; omega, by rw [Off_s a]; omega⟩, fun r _ => by rw [Off_t a], fun r i _ w => a.2 r i w⟩
theorem Ext_w (a : Ext W h h') (hw : W r k ∨ ah_n h ≤ r) : Ext W h (ah_w h' r k z) := by
  refine ⟨a.1, a.2.1, fun x y q w => ?_⟩
  rw [ah_m_w]
  split
  · rename_i e
    rcases hw with u | u
    · rw [← e.1, ← e.2] at u; exact absurd u w
    · omega
  · exact a.2.2 x y q w
theorem ah_t_new {tt : Int × Int} : ah_t (ah_new h tt N) r = if r = ah_n h then tt else ah_t h r := rfl
theorem ah_m_new {tt : Int × Int} : ah_m (ah_new h tt N) r i = if r = ah_n h then 0 else ah_m h r i := rfl
theorem ah_n_new {tt : Int × Int} : ah_n (ah_new h tt N) = ah_n h + 1 := rfl
theorem ah_s_new {tt : Int × Int} : ah_s (ah_new h tt N) = ah_s h + N := rfl
theorem Ext_new {tt : Int × Int} (a : Ext W h h') (hN : 0 ≤ N) : Ext W h (ah_new h' tt N) := by
  obtain ⟨a1, a2, a3⟩ := a
  refine ⟨⟨by rw [ah_n_new]; omega, by rw [ah_s_new]; omega⟩, fun r q => ?_, fun r i q w => ?_⟩
  · rw [ah_n_new] at q
    rw [ah_t_new, if_neg (by omega)]; exact a2 r (by omega)
  · rw [ah_m_new, if_neg (by omega)]; exact a3 r i q w
theorem FRE_ext (hF : FRE h) (a : Ext W h h') : FRE h' := ⟨by have := hF.1; have := a.1; omega, fun r q => by rw [a.2.1 r (Or.inr q)]; exact hF.2 r (by have := a.1; omega)⟩
theorem FRE_lt (hF : FRE h) (ht : (ah_t h r).1 ≠ 0) : r < ah_n h := by
  by_cases g : r < ah_n h
  · exact g
  · exact absurd (congrArg Prod.fst (hF.2 r (by omega))) ht
theorem XI_ext (hI : XI h) (hF : FRE h) (hE : Ext W h h') (hW : ∀ r i, W r i → ¬ fix r i) : XI h' := by
  have n1 := hF.1
  have ht : ∀ r, r < 1121 → ah_t h' r = ah_t h r := fun r q => hE.2.1 r (by omega)
  have hm : ∀ r i, r < 1121 → fix r i → ah_m h' r i = ah_m h r i := fun r i q f => hE.2.2 r i (by omega) (fun w => hW r i w f)
  have xT : ∀ p ∈ xTL, p.1 < 1121 := by decide
  have xF : ∀ p ∈ xFL, p.1 < 1121 := by decide
  refine ⟨fun p q => by rw [ht _ (xT p q)]; exact hI.1 p q, fun p q => by rw [hm _ _ (xF p q) (xFL_f p q)]; exact hI.2.1 p q, fun s hs => ?_, fun v hv => ?_⟩
  · have := hI.2.2.1 s hs
    have s9 : s < 1020 := by unfold isS at hs; omega
    unfold XSf at this ⊢
    rw [hm s 3 (by omega) (by unfold fix; simp [hs]), hm s 4 (by omega) (by unfold fix; simp [hs]), hm s 5 (by omega) (by unfold fix; simp [hs]), hm s 6 (by omega) (by unfold fix; simp [hs]), hm s 11 (by omega) (by unfold fix; simp [hs]), ht s (by omega), ht (s + 1) (by omega), ht (s + 2) (by omega), ht (s + 3) (by omega), ht (s + 4) (by omega)]
    exact ⟨⟨this.1.1, this.1.2.1, this.1.2.2.1, this.1.2.2.2.1, this.1.2.2.2.2.1, fun j a b => by rw [ht _ (by omega)]; exact this.1.2.2.2.2.2 j a b⟩, this.2⟩
  · have := hI.2.2.2 v hv
    have s9 : v < 1035 := by unfold isV at hv; omega
    unfold XVf at this ⊢
    rw [hm v 0 (by omega) (by unfold fix; simp [hv]), hm v 1 (by omega) (by unfold fix; simp [hv]), ht v (by omega), ht (v + 1) (by omega), ht (v + 2) (by omega)]
    exact this
theorem STR_ext (hs : STR h p l) (hF : FRE h) (hE : Ext W h h') (hW : ∀ i, ¬ W p i ∧ ¬ W (ah_m h p 0) i) : STR h' p l := by
  have p1 : p < ah_n h := FRE_lt hF (by rw [hs.1]; decide)
  have p2 : ah_m h p 0 < ah_n h := FRE_lt hF (by rw [hs.2.2.1]; exact (by decide : (-2 : Int) ≠ 0))
  have e0 : ah_m h' p 0 = ah_m h p 0 := hE.2.2 _ _ p1 (hW 0).1
  refine ⟨by rw [hE.2.1 _ (Or.inl p1)]; exact hs.1, by rw [hE.2.2 _ _ p1 (hW 1).1]; exact hs.2.1, by rw [e0, hE.2.1 _ (Or.inl p2)]; exact hs.2.2.1, fun i a => ?_⟩
  rw [e0, hE.2.2 _ _ p2 (hW i).2]; exact hs.2.2.2 i a
theorem conS_n : ∀ p ∈ conS, p.1 < 0 := by decide
theorem conA_n : ∀ p ∈ conA, p.1 < 0 := by decide
theorem CON_ext (hc : CON h) (hF : FRE h) (hE : Ext W h h') (hW : ∀ r i, W r i → 0 < r) : CON h' := by
  have n1 := hF.1
  refine ⟨fun p q => ?_, fun p q => ?_⟩
  · have hn := conS_n p q
    have hc := hc.1 p q
    refine ⟨STR_ext hc.1 hF hE (fun i => ⟨fun w => by have := hW _ _ w; omega, fun w => by have := hW _ _ w; rw [hc.2] at this; omega⟩), ?_⟩
    rw [hE.2.2 _ _ (by omega) (fun w => by have := hW _ _ w; omega)]; exact hc.2
  · have hn := conA_n p q
    have hc := hc.2 p q
    refine ⟨by rw [hE.2.1 _ (Or.inl (by omega))]; exact hc.1, fun i a => ?_⟩
    rw [hE.2.2 _ _ (by omega) (fun w => by have := hW _ _ w; omega)]; exact hc.2 i a
theorem RXI_ext (hR : RXI h) (hE : Ext W h h') (hW : ∀ r i, W r i → ¬ fix r i ∧ 0 < r) : RXI h' := ⟨XI_ext hR.1 hR.2.1 hE (fun r i w => (hW r i w).1), FRE_ext hR.2.1 hE, CON_ext hR.2.2 hR.2.1 hE (fun r i w => (hW r i w).2)⟩
theorem Wr2_ok : ∀ r i, Wr2 r i → ¬ fix r i ∧ 0 < r := fun r i w => by unfold Wr2 at w; unfold fix isS isV; omega
theorem Wrd_ok : ∀ r i, Wrd r i → ¬ fix r i ∧ 0 < r := fun r i w => by unfold Wrd at w; unfold fix isS isV; omega
theorem Wr2_d : ∀ r i, Wr2 r i → Wrd r i := fun r i w => Or.inl ⟨w.1, Or.inl w.2⟩
theorem XTp_ext (hT : XTp tp n h) (hF : FRE h) (hE : Ext W h h') (hW : ∀ r i, W r i → r ≠ 10) : XTp tp n h' := fun i a b => by
  rw [hE.2.2 _ _ (by have := hF.1; omega) (fun w => hW _ _ w rfl)]; exact hT i a b
/-- what reads on -/
theorem RX_ext (hR : RX t n k h) (hE : Ext W h h') (hW : ∀ r i, W r i → (¬ fix r i ∧ 0 < r) ∧ r ≠ 10 ∧ ¬ (r = 11 ∧ i = 1)) (ek : ah_m h' 11 2 = v) (hv : 0 ≤ v ∧ v ≤ n) : RX t n v h' :=
  ⟨RXI_ext hR.1 hE (fun r i w => (hW r i w).1), by rw [hE.2.2 _ _ (by have := hR.1.2.1.1; omega) (fun w => (hW _ _ w).2.2 ⟨rfl, rfl⟩)]; exact hR.2.1, ek, XTp_ext hR.2.2.2.1 hR.1.2.1 hE (fun r i w => (hW r i w).2.1), hR.2.2.2.2.1, hv⟩
theorem Wrd_x : ∀ r i, Wrd r i → (¬ fix r i ∧ 0 < r) ∧ r ≠ 10 ∧ ¬ (r = 11 ∧ i = 1) := fun r i w => ⟨Wrd_ok r i w, by unfold Wrd at w; omega, by unfold Wrd at w; omega⟩
/-! facts by row -/
theorem r_11 (hR : RXI h) : (ah_t h 11).1 = 4 := congrArg Prod.fst (hR.1.1 (11, 4, 0) (by decide))
theorem r_12 (hR : RXI h) : (ah_t h 12).1 = 5 := congrArg Prod.fst (hR.1.1 (12, 5, 0) (by decide))
theorem r_1 (hR : RXI h) : (ah_t h 1).1 = 1 := congrArg Prod.fst (hR.1.1 (1, 1, 0) (by decide))
theorem r_10a (hR : RXI h) : (ah_t h 10).1 = -2 := congrArg Prod.fst (hR.1.1 (10, -2, 1600) (by decide))
theorem r_10b (hR : RXI h) : (ah_t h 10).2 = 1600 := congrArg Prod.snd (hR.1.1 (10, -2, 1600) (by decide))
theorem r_11_0 (hR : RXI h) : ah_m h 11 0 = 12 := hR.1.2.1 (11, 0, 12) (by decide)
theorem r_11_7 (hR : RXI h) : ah_m h 11 7 = 1 := hR.1.2.1 (11, 7, 1) (by decide)
theorem r_1_1 (hR : RXI h) : ah_m h 1 1 = 10 := hR.1.2.1 (1, 1, 10) (by decide)
theorem c_90 : wpC (d + 1) 90 [.inl x] h Q ↔ Q (.inl (some (.inl (zb (zL x))))) h := by
  apply CT_iff; apply CT_of; rw [wpC_B]; refine ⟨⟨Nat.zero_lt_succ _, Nat.le_of_ble_eq_true rfl⟩, ?_⟩; simp only [lent]
  unfold zL
  by_cases g : x < 97
  · rw [decide_eq_false (by omega)]
    simp (disch := omega) only [q_90_0, b_90_0, q_90_16, b_90_16, q_90_17, b_90_17, ↓w_iconst, ↓w_bipush, ↓w_iload_n_0, ↓w_nop, ↓w_goto, ↓w_if_icmp_lt, ↓w_if_icmp_gt, ↓w_ireturn1, stw_0, stw_i, stw_l, stw_r, ofK0, ofK1, ofK2, lst1, lst2, lkill, kont_none, kont_some, Int.reduceToNat, List.length_cons, List.length_nil, Nat.reduceAdd, Nat.reduceLeDiff, Nat.zero_le, true_and, and_true, if_true, if_false, ne_eq, Int.reduceEq, Int.reduceNeg, not_false_eq_true, not_true_eq_false, ↓reduceIte, Int.reduceLT, Int.reduceLE, and_self, or_true, true_or, or_false, false_or, false_and, and_false, ah_t_w, ah_m_w, ah_n_w, lst1_0, List.tail_cons, w32_i, zbd, lst2_0, g, zb_f]
  · by_cases g2 : 122 < x
    · rw [decide_eq_false (by omega)]
      simp (disch := omega) only [q_90_0, b_90_0, q_90_16, b_90_16, q_90_17, b_90_17, ↓w_iconst, ↓w_bipush, ↓w_iload_n_0, ↓w_nop, ↓w_goto, ↓w_if_icmp_lt, ↓w_if_icmp_gt, ↓w_ireturn1, stw_0, stw_i, stw_l, stw_r, ofK0, ofK1, ofK2, lst1, lst2, lkill, kont_none, kont_some, Int.reduceToNat, List.length_cons, List.length_nil, Nat.reduceAdd, Nat.reduceLeDiff, Nat.zero_le, true_and, and_true, if_true, if_false, ne_eq, Int.reduceEq, Int.reduceNeg, not_false_eq_true, not_true_eq_false, ↓reduceIte, Int.reduceLT, Int.reduceLE, and_self, or_true, true_or, or_false, false_or, false_and, and_false, ah_t_w, ah_m_w, ah_n_w, lst1_0, List.tail_cons, w32_i, zbd, lst2_0, g, g2, zb_f]
    · rw [decide_eq_true (by omega)]
      simp (disch := omega) only [q_90_0, b_90_0, q_90_16, b_90_16, q_90_17, b_90_17, ↓w_iconst, ↓w_bipush, ↓w_iload_n_0, ↓w_nop, ↓w_goto, ↓w_if_icmp_lt, ↓w_if_icmp_gt, ↓w_ireturn1, stw_0, stw_i, stw_l, stw_r, ofK0, ofK1, ofK2, lst1, lst2, lkill, kont_none, kont_some, Int.reduceToNat, List.length_cons, List.length_nil, Nat.reduceAdd, Nat.reduceLeDiff, Nat.zero_le, true_and, and_true, if_true, if_false, ne_eq, Int.reduceEq, Int.reduceNeg, not_false_eq_true, not_true_eq_false, ↓reduceIte, Int.reduceLT, Int.reduceLE, and_self, or_true, true_or, or_false, false_or, false_and, and_false, ah_t_w, ah_m_w, ah_n_w, lst1_0, List.tail_cons, w32_i, zbd, lst2_0, g, g2, zb_t]
theorem c_91 : wpC (d + 1) 91 [.inl x] h Q ↔ Q (.inl (some (.inl (zb (zD x))))) h := by
  apply CT_iff; apply CT_of; rw [wpC_B]; refine ⟨⟨Nat.zero_lt_succ _, Nat.le_of_ble_eq_true rfl⟩, ?_⟩; simp only [lent]
  unfold zD
  by_cases g : x < 48
  · rw [decide_eq_false (by omega)]
    simp (disch := omega) only [q_91_0, b_91_0, q_91_16, b_91_16, q_91_17, b_91_17, ↓w_iconst, ↓w_bipush, ↓w_iload_n_0, ↓w_nop, ↓w_goto, ↓w_if_icmp_lt, ↓w_if_icmp_gt, ↓w_ireturn1, stw_0, stw_i, stw_l, stw_r, ofK0, ofK1, ofK2, lst1, lst2, lkill, kont_none, kont_some, Int.reduceToNat, List.length_cons, List.length_nil, Nat.reduceAdd, Nat.reduceLeDiff, Nat.zero_le, true_and, and_true, if_true, if_false, ne_eq, Int.reduceEq, Int.reduceNeg, not_false_eq_true, not_true_eq_false, ↓reduceIte, Int.reduceLT, Int.reduceLE, and_self, or_true, true_or, or_false, false_or, false_and, and_false, ah_t_w, ah_m_w, ah_n_w, lst1_0, List.tail_cons, w32_i, zbd, lst2_0, g, zb_f]
  · by_cases g2 : 57 < x
    · rw [decide_eq_false (by omega)]
      simp (disch := omega) only [q_91_0, b_91_0, q_91_16, b_91_16, q_91_17, b_91_17, ↓w_iconst, ↓w_bipush, ↓w_iload_n_0, ↓w_nop, ↓w_goto, ↓w_if_icmp_lt, ↓w_if_icmp_gt, ↓w_ireturn1, stw_0, stw_i, stw_l, stw_r, ofK0, ofK1, ofK2, lst1, lst2, lkill, kont_none, kont_some, Int.reduceToNat, List.length_cons, List.length_nil, Nat.reduceAdd, Nat.reduceLeDiff, Nat.zero_le, true_and, and_true, if_true, if_false, ne_eq, Int.reduceEq, Int.reduceNeg, not_false_eq_true, not_true_eq_false, ↓reduceIte, Int.reduceLT, Int.reduceLE, and_self, or_true, true_or, or_false, false_or, false_and, and_false, ah_t_w, ah_m_w, ah_n_w, lst1_0, List.tail_cons, w32_i, zbd, lst2_0, g, g2, zb_f]
    · rw [decide_eq_true (by omega)]
      simp (disch := omega) only [q_91_0, b_91_0, q_91_16, b_91_16, q_91_17, b_91_17, ↓w_iconst, ↓w_bipush, ↓w_iload_n_0, ↓w_nop, ↓w_goto, ↓w_if_icmp_lt, ↓w_if_icmp_gt, ↓w_ireturn1, stw_0, stw_i, stw_l, stw_r, ofK0, ofK1, ofK2, lst1, lst2, lkill, kont_none, kont_some, Int.reduceToNat, List.length_cons, List.length_nil, Nat.reduceAdd, Nat.reduceLeDiff, Nat.zero_le, true_and, and_true, if_true, if_false, ne_eq, Int.reduceEq, Int.reduceNeg, not_false_eq_true, not_true_eq_false, ↓reduceIte, Int.reduceLT, Int.reduceLE, and_self, or_true, true_or, or_false, false_or, false_and, and_false, ah_t_w, ah_m_w, ah_n_w, lst1_0, List.tail_cons, w32_i, zbd, lst2_0, g, g2, zb_t]
theorem c_175 (hR : RX t n k h) : wpC (d + 1) 175 [.inr (.inr 11), .inl x] h Q ↔ Q (.inl (some (.inl (zB t n x)))) h := by
  have hI := hR.1
  have e1 := hR.2.1
  have n16 := hR.2.2.2.2.1.1.2
  apply CT_iff; apply CT_of; rw [wpC_B]; refine ⟨⟨Nat.zero_lt_succ _, Nat.le_of_ble_eq_true rfl⟩, ?_⟩; simp only [lent]
  unfold zB
  by_cases g : x < 0
  · rw [if_neg (by omega)]
    simp (disch := omega) only [q_175_0, b_175_0, q_175_28, b_175_28, q_175_29, b_175_29, ↓w_iconst, ↓w_sipush, ↓w_aload_n_0, ↓w_iload_n_1, ↓w_iand, ↓w_getfield, ↓w_baload, ↓w_nop, ↓w_goto, ↓w_ifCond_lt, ↓w_if_icmp_ge, ↓w_ireturn0, stw_0, stw_i, stw_l, stw_r, ofK0, ofK1, ofK2, lst1, lst2, lkill, kont_none, kont_some, Int.reduceToNat, List.length_cons, List.length_nil, Nat.reduceAdd, Nat.reduceLeDiff, Nat.zero_le, true_and, and_true, if_true, if_false, ne_eq, Int.reduceEq, Int.reduceNeg, not_false_eq_true, not_true_eq_false, ↓reduceIte, Int.reduceLT, Int.reduceLE, and_self, or_true, true_or, or_false, false_or, false_and, and_false, ah_t_w, ah_m_w, ah_n_w, lst1_0, List.tail_cons, w32_i, zbd, lst2_0, g]
  · by_cases g2 : x < n
    · rw [if_pos (by omega)]
      have ht := (hR.2.2.2.1 x (by omega) g2).2
      have b0 : 0 ≤ x := by omega
      have b1 : x < 1600 := by omega
      simp (disch := omega) only [q_175_0, b_175_0, q_175_28, b_175_28, q_175_29, b_175_29, ↓w_iconst, ↓w_sipush, ↓w_aload_n_0, ↓w_iload_n_1, ↓w_iand, ↓w_getfield, ↓w_baload, ↓w_nop, ↓w_goto, ↓w_ifCond_lt, ↓w_if_icmp_ge, ↓w_ireturn0, stw_0, stw_i, stw_l, stw_r, ofK0, ofK1, ofK2, lst1, lst2, lkill, kont_none, kont_some, Int.reduceToNat, List.length_cons, List.length_nil, Nat.reduceAdd, Nat.reduceLeDiff, Nat.zero_le, true_and, and_true, if_true, if_false, ne_eq, Int.reduceEq, Int.reduceNeg, not_false_eq_true, not_true_eq_false, ↓reduceIte, Int.reduceLT, Int.reduceLE, and_self, or_true, true_or, or_false, false_or, false_and, and_false, ah_t_w, ah_m_w, ah_n_w, lst1_0, List.tail_cons, w32_i, zbd, lst2_0, g, g2, e1, r_11 hI, r_11_7 hI, r_1 hI, r_1_1 hI, r_10a hI, r_10b hI, b0, b1, iand_255, ht]
    · rw [if_neg (by omega)]
      simp (disch := omega) only [q_175_0, b_175_0, q_175_28, b_175_28, q_175_29, b_175_29, ↓w_iconst, ↓w_sipush, ↓w_aload_n_0, ↓w_iload_n_1, ↓w_iand, ↓w_getfield, ↓w_baload, ↓w_nop, ↓w_goto, ↓w_ifCond_lt, ↓w_if_icmp_ge, ↓w_ireturn0, stw_0, stw_i, stw_l, stw_r, ofK0, ofK1, ofK2, lst1, lst2, lkill, kont_none, kont_some, Int.reduceToNat, List.length_cons, List.length_nil, Nat.reduceAdd, Nat.reduceLeDiff, Nat.zero_le, true_and, and_true, if_true, if_false, ne_eq, Int.reduceEq, Int.reduceNeg, not_false_eq_true, not_true_eq_false, ↓reduceIte, Int.reduceLT, Int.reduceLE, and_self, or_true, true_or, or_false, false_or, false_and, and_false, ah_t_w, ah_m_w, ah_n_w, lst1_0, List.tail_cons, w32_i, zbd, lst2_0, g, g2, e1, r_11 hI]
theorem l_174 (hQ : ∀ h', RX t n (zsk t n k) h' → Off Wr2 h h' → Q (.inl (some (.inl (zB t n (zsk t n k))))) h') : ∀ (j : Nat) (x : Int) h', 0 ≤ x → x + j = n → RX t n x h' → Off Wr2 h h' → zskf t n j x = zsk t n k → wpB (d + 1) 174 0 [some (.inr (.inr 11))] [] h' Q := by
  intro j
  induction j with
  | zero =>
    intro x h' x0 x1 hR hO e
    simp only [zskf] at e
    have e2 := hR.2.2.1
    have t11 := r_11 hR.1
    have eB : zB t n x = -1 := zB_o (by omega)
    subst e
    have hQ := hQ h' hR hO
    rw [eB] at hQ
    simp (disch := omega) only [q_174_0, b_174_0, q_174_39, b_174_39, ↓w_bipush, ↓w_aload_n_0, ↓w_getfield, ↓w_nop, ↓w_if_icmp_eq, ↓w_if_icmp_ne, ↓w_ireturn0, ↓w_invokevirtual_1, stw_0, stw_i, stw_l, stw_r, ofK0, ofK1, ofK2, lst1, lst2, lkill, kont_none, kont_some, Int.reduceToNat, List.length_cons, List.length_nil, Nat.reduceAdd, Nat.reduceLeDiff, Nat.zero_le, true_and, and_true, if_true, if_false, ne_eq, Int.reduceEq, Int.reduceNeg, not_false_eq_true, not_true_eq_false, ↓reduceIte, Int.reduceLT, Int.reduceLE, and_self, or_true, true_or, or_false, false_or, false_and, and_false, ah_t_w, ah_m_w, ah_n_w, lst1_0, List.tail_cons, w32_i, zbd, lst2_0, c_175 hR, e2, t11, eB]
    exact hQ
  | succ j ih =>
    intro x h' x0 x1 hR hO e
    simp only [zskf] at e
    have e2 := hR.2.2.1
    have t11 := r_11 hR.1
    rw [q_174_0]
    by_cases g : zbk (zB t n x) = true
    · rw [if_pos g] at e
      have hO2 : Off Wr2 h' (ah_w h' 11 2 (x + 1)) := Off_w Off_rfl ⟨rfl, rfl⟩
      have hR2 : RX t n (x + 1) (ah_w h' 11 2 (x + 1)) := RX_ext hR (Ext_off hO2) (fun r i w => Wrd_x r i (Wr2_d r i w)) (by rw [ah_m_w, if_pos ⟨rfl, rfl⟩]) (by omega)
      have ih := ih (x + 1) _ (by omega) (by omega) hR2 (Off_tr hO hO2) e
      have n16 := hR.2.2.2.2.1.1.2
      unfold zbk at g
      have g := of_decide_eq_true g
      by_cases g32 : zB t n x = 32
      · simp (disch := omega) only [b_174_0, q_174_26, b_174_26, ↓w_iconst, ↓w_bipush, ↓w_aload_n_0, ↓w_dup_i, ↓w_dup_a, ↓w_iadd, ↓w_getfield, ↓w_putfield_0, ↓w_nop, ↓w_goto, ↓w_if_icmp_eq, ↓w_if_icmp_ne, ↓w_invokevirtual_1, stw_0, stw_i, stw_l, stw_r, ofK0, ofK1, ofK2, lst1, lst2, lkill, kont_none, kont_some, Int.reduceToNat, List.length_cons, List.length_nil, Nat.reduceAdd, Nat.reduceLeDiff, Nat.zero_le, true_and, and_true, if_true, if_false, ne_eq, Int.reduceEq, Int.reduceNeg, not_false_eq_true, not_true_eq_false, ↓reduceIte, Int.reduceLT, Int.reduceLE, and_self, or_true, true_or, or_false, false_or, false_and, and_false, ah_t_w, ah_m_w, ah_n_w, lst1_0, List.tail_cons, w32_i, zbd, lst2_0, c_175 hR, e2, t11, g32]
        exact ih
      · have g10 : zB t n x = 10 := by omega
        simp (disch := omega) only [b_174_0, q_174_26, b_174_26, ↓w_iconst, ↓w_bipush, ↓w_aload_n_0, ↓w_dup_i, ↓w_dup_a, ↓w_iadd, ↓w_getfield, ↓w_putfield_0, ↓w_nop, ↓w_goto, ↓w_if_icmp_eq, ↓w_if_icmp_ne, ↓w_invokevirtual_1, stw_0, stw_i, stw_l, stw_r, ofK0, ofK1, ofK2, lst1, lst2, lkill, kont_none, kont_some, Int.reduceToNat, List.length_cons, List.length_nil, Nat.reduceAdd, Nat.reduceLeDiff, Nat.zero_le, true_and, and_true, if_true, if_false, ne_eq, Int.reduceEq, Int.reduceNeg, not_false_eq_true, not_true_eq_false, ↓reduceIte, Int.reduceLT, Int.reduceLE, and_self, or_true, true_or, or_false, false_or, false_and, and_false, ah_t_w, ah_m_w, ah_n_w, lst1_0, List.tail_cons, w32_i, zbd, lst2_0, c_175 hR, e2, t11, g10]
        exact ih
    · rw [if_neg g] at e
      have g' : ¬ (zB t n x = 32 ∨ zB t n x = 10) := fun q => g (decide_eq_true q)
      have g32 : ¬ zB t n x = 32 := fun q => g' (Or.inl q)
      have g10 : ¬ zB t n x = 10 := fun q => g' (Or.inr q)
      subst e
      simp (disch := omega) only [b_174_0, q_174_39, b_174_39, ↓w_bipush, ↓w_aload_n_0, ↓w_getfield, ↓w_nop, ↓w_if_icmp_eq, ↓w_if_icmp_ne, ↓w_ireturn0, ↓w_invokevirtual_1, stw_0, stw_i, stw_l, stw_r, ofK0, ofK1, ofK2, lst1, lst2, lkill, kont_none, kont_some, Int.reduceToNat, List.length_cons, List.length_nil, Nat.reduceAdd, Nat.reduceLeDiff, Nat.zero_le, true_and, and_true, if_true, if_false, ne_eq, Int.reduceEq, Int.reduceNeg, not_false_eq_true, not_true_eq_false, ↓reduceIte, Int.reduceLT, Int.reduceLE, and_self, or_true, true_or, or_false, false_or, false_and, and_false, ah_t_w, ah_m_w, ah_n_w, lst1_0, List.tail_cons, w32_i, zbd, lst2_0, c_175 hR, e2, t11, g32, g10]
      exact hQ h' hR hO
theorem c_174 (hR : RX t n k h) (hQ : ∀ h', RX t n (zsk t n k) h' → Off Wr2 h h' → Q (.inl (some (.inl (zB t n (zsk t n k))))) h') : wpC (d + 2) 174 [.inr (.inr 11)] h Q := by
  have hk := hR.2.2.2.2.2
  rw [wpC_B]; refine ⟨⟨Nat.zero_lt_succ _, Nat.le_of_ble_eq_true rfl⟩, ?_⟩; simp only [lent]
  exact l_174 hQ (n - k).toNat k h hk.1 (by omega) hR Off_rfl rfl
/-- at fault: of what kind, where -/
def BXx (a b : Int) (h : AH) : Prop := ah_m h 12 6 = a ∧ ah_m h 12 7 = b
theorem c_176 (hI : RXI h) : wpC (d + 1) 176 [.inr (.inr 11), .inl a, .inl b] h Q ↔ Q (.inl (some (.inr (.inr 12)))) (ah_w (ah_w h 12 6 a) 12 7 b) := by
  apply CT_iff; apply CT_of; rw [wpC_B]; refine ⟨⟨Nat.zero_lt_succ _, Nat.le_of_ble_eq_true rfl⟩, ?_⟩; simp only [lent]
  simp (disch := omega) only [q_176_0, b_176_0, ↓w_aload_n_0, ↓w_iload_n_1, ↓w_iload_n_2, ↓w_getfield, ↓w_putfield_0, ↓w_areturn, stw_0, stw_i, stw_l, stw_r, ofK0, ofK1, ofK2, lst1, lst2, lkill, kont_none, kont_some, Int.reduceToNat, List.length_cons, List.length_nil, Nat.reduceAdd, Nat.reduceLeDiff, Nat.zero_le, true_and, and_true, if_true, if_false, ne_eq, Int.reduceEq, Int.reduceNeg, not_false_eq_true, not_true_eq_false, ↓reduceIte, Int.reduceLT, Int.reduceLE, and_self, or_true, true_or, or_false, false_or, false_and, and_false, ah_t_w, ah_m_w, ah_n_w, lst1_0, List.tail_cons, w32_i, zbd, lst2_0, r_11 hI, r_11_0 hI, r_12 hI]
/-- a fault is thrown -/
theorem thr (hI : RXI h) (hq : ∀ h', Off (fun r i => r = 12 ∧ (i = 6 ∨ i = 7)) h h' → BXx a b h' → Q (.inr 12) h') {nn : Nat} {L : ALoc} {c1 : Nat} : wpL (d + 1) nn [(.invokevirtual c1, 0, 2, [(4, 176)]), (.athrow, 0, 0, [(5, 0)])] L [.inl b, .inl a, .inr (.inr 11)] h Q := by
  have t1 := r_11 hI
  have t2 := r_12 hI
  simp (disch := omega) only [↓w_invokevirtual_2, t1, c_176 hI, kont_some, stw_0, stw_i, stw_r, Int.reduceToNat, ne_eq, Int.reduceEq, Int.reduceNeg, not_false_eq_true, true_and, Nat.zero_le]
  rw [w_athrow]
  refine ⟨⟨?_, by omega⟩, hq _ (Off_w (Off_w Off_rfl ⟨rfl, Or.inl rfl⟩) ⟨rfl, Or.inr rfl⟩) ⟨?_, ?_⟩⟩
  · rw [ah_t_w, ah_t_w, t2]
  · rw [ah_m_w, if_neg (by omega), ah_m_w, if_pos ⟨rfl, rfl⟩]
  · rw [ah_m_w, if_pos ⟨rfl, rfl⟩]
end B1
