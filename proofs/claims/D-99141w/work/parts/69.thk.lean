/-! ===== M: days gone through in thought ===== -/
def WT (r i : Int) : Prop := WD r i ∨ r = 1084 ∨ r = 1090 ∨ (r = 1036 ∧ (i = 75 ∨ i = 78 ∨ i = 79))
def zlat (T : Int → Int → Int) (nd : Int → Int) (w : Int) : Int := if w < 2 then zmen T nd w else if w = 2 then zbea T nd else zb (zcr T nd || (zmv T nd).isEmpty)
/-- how deep sides look by themselves -/
def LV (T : Int → Int → Int) : Prop := (1 ≤ T 1074 6 ∧ T 1074 6 ≤ 2) ∧ (1 ≤ T 1074 7 ∧ T 1074 7 ≤ 2)
/-- not in thought -/
def MX (h : AH) : Prop := ah_m h 1036 75 = 0 ∧ ah_m h 1036 78 = -1
def zahd (nw : Int → Int) (isb n lo hi : Int) : Prop := isb ≠ 0 ∧ (lo ≤ n ∧ n ≤ hi) ∧ nw 0 + n ≤ 999
section THK
variable {d : Nat} {h h0 : AH} {Q : QQ} {x y z m k s l w a b v n t p th D0 D1 : Int} {T : Int → Int → Int} {nw g : Int → Int} {c : Int × Int × Int}
set_option maxHeartbeats 2000000
theorem WT_f {r i : Int} (w : WT r i) : fre r i ∧ ¬ (1072 ≤ r ∧ r ≤ 1082) := by
  rcases w with w | w
  · exact WD_f w
  · unfold fre; omega
theorem zdy_0 (hG : MG T nw h) (hF : FV nw) (hv : zcv T c) : zdy T nw th c 0 = nw 0 + 1 := by
  unfold zdy znx
  rw [if_pos rfl, zgr_lo (by decide)]
  split
  · unfold zfs; rw [if_neg (by decide)]
  · rename_i e
    rcases hv with hv | hv
    · exact absurd hv e
    · rw [(zpy_hi hG hF hv.2.1 hv.2.2.1).1]
theorem zdy_th (hG : MG T nw h) (hv : zcv T c) (ht : th ≠ 0) {i : Int} (hi : i < 0 ∨ 24 ≤ i) : zdy T nw th c i = nw i := by
  have h5 := hG.2.2.2.1.2.2.1
  have h8 := hG.2.2.2.1.2.1
  unfold zdy znx
  rw [if_neg (by omega)]
  unfold zgr
  rw [if_neg (by omega)]
  split
  · unfold zfs; rw [if_neg (by omega)]
  · rename_i e
    rcases hv with hv | hv
    · exact absurd hv e
    · have hb := @zat_b h (c.2.2 % T 1074 4) (c.2.2 / T 1074 4) T nw hG
      unfold zpy
      rw [if_neg ht]
      unfold zph zhf
      rw [if_neg (by omega)]
      unfold zdo
      rw [if_neg (by omega), if_neg (by omega), if_neg (by omega), if_neg (by omega)]
theorem zdd_off {W : Int → Int → Prop} {h' : AH} (hO : Off W h h') (hW : ∀ i, i = 78 ∨ i = 79 → ¬ W 1036 i) : zdd T h' = zdd T h := by
  funext s; unfold zdd; rw [hO.2 _ _ (hW 78 (Or.inl rfl)), hO.2 _ _ (hW 79 (Or.inr rfl))]
theorem l_330 (hH : HV T) (hD0 : zdd T h 0 = D0) (hD1 : zdd T h 1 = D1) (b0 : 1 ≤ D0 ∧ D0 ≤ 3) (b1 : 1 ≤ D1 ∧ D1 ≤ 3) (e75 : ah_m h 1036 75 = th) (hn : 0 ≤ n ∧ n ≤ 1000) {R : Int → Int} (hQ : ∀ h', MG T R h' → FV R → Off WD h h' → (th ≠ 0 → ∀ i, i < 0 ∨ 24 ≤ i → R i = ah_m h 1083 i) → Q (.inl none) h') :
    ∀ (j : Nat) (k : Int) (nw : Int → Int) tl h', 0 ≤ k → k + j = n → MG T nw h' → FV nw → nw 0 + j ≤ 5000 → Off WD h h' → (th ≠ 0 → ∀ i, i < 0 ∨ 24 ≤ i → nw i = ah_m h 1083 i) → zds T th D0 D1 j nw = R → wpB (d + 10) 330 2 (some (.inr (.inr 1036)) :: some (.inl n) :: some (.inl k) :: tl) [] h' Q := by
  intro j
  induction j with
  | zero =>
    intro k nw tl h' k0 k1 hG hF hd hO hth hR
    have hlt : ¬ k < n := by omega
    simp (disch := omega) only [q_330_2, b_330_2, q_330_21, b_330_21, ↓w_aload_n_0, ↓w_iload_n_1, ↓w_iload_n_2, ↓w_iinc_2, ↓w_goto, ↓w_if_icmp_ge, ↓w_return, ↓w_invokevirtual_0, stw_0, stw_i, stw_l, stw_r, ofK0, ofK1, ofK2, lst1, lst2, lkill, kont_none, kont_some, Int.reduceToNat, List.length_cons, List.length_nil, Nat.reduceAdd, Nat.reduceLeDiff, Nat.zero_le, true_and, and_true, if_true, if_false, ne_eq, Int.reduceEq, Int.reduceNeg, not_false_eq_true, not_true_eq_false, ↓reduceIte, Int.reduceLT, Int.reduceLE, and_self, or_true, true_or, or_false, false_or, false_and, and_false, ah_t_w, ah_m_w, ah_n_w, lst1_0, List.tail_cons, w32_i, zbd, lst2_0, mt_1036a hG.1, hlt]
    simp only [zds] at hR
    subst hR
    exact hQ _ hG hF hO hth
  | succ j ih =>
    intro k nw tl h' k0 k1 hG hF hd hO hth hR
    have hlt : k < n := by omega
    have hT := hG.2.2.2.1
    have hs := hG.2.2.2.2.2.2.2
    have hdd : zdd T h' = zdd T h := zdd_off hO (fun i a => by unfold WD Wc Wy Wq; omega)
    have hDD : zdd T h' (nw 1) = if nw 1 = 0 then D0 else D1 := by
      rw [hdd]; rcases hs with e | e <;> rw [e]
      · rw [if_pos rfl]; exact hD0
      · rw [if_neg (by decide)]; exact hD1
    have hb : 1 ≤ (if nw 1 = 0 then D0 else D1) ∧ (if nw 1 = 0 then D0 else D1) ≤ 3 := by split <;> assumption
    rw [q_330_2]
    simp (disch := omega) only [b_330_2, ↓w_aload_n_0, ↓w_iload_n_1, ↓w_iload_n_2, ↓w_iinc_2, ↓w_goto, ↓w_if_icmp_ge, ↓w_invokevirtual_0, stw_0, stw_i, stw_l, stw_r, ofK0, ofK1, ofK2, lst1, lst2, lkill, kont_none, kont_some, Int.reduceToNat, List.length_cons, List.length_nil, Nat.reduceAdd, Nat.reduceLeDiff, Nat.zero_le, true_and, and_true, if_true, if_false, ne_eq, Int.reduceEq, Int.reduceNeg, not_false_eq_true, not_true_eq_false, ↓reduceIte, Int.reduceLT, Int.reduceLE, and_self, or_true, true_or, or_false, false_or, false_and, and_false, ah_t_w, ah_m_w, ah_n_w, lst1_0, List.tail_cons, w32_i, zbd, lst2_0, mt_1036a hG.1, hlt]
    refine c_331 hG hDD hb.1 hb.2 (fun h1 hG1 hO1 hch => ?_)
    have hv := @zbe_v (ah_m h' 1036 69) (ah_m h' 1036 70) T nw ((if nw 1 = 0 then D0 else D1) - 1).toNat hT
    have hO1' : Off WD h h1 := Off_tr hO (Off_mono (fun r i w => Or.inl w) hO1)
    have f75 : ah_m h1 1036 75 = th := by rw [hO1'.2 _ _ (by unfold WD Wc Wy Wq; omega)]; exact e75
    simp (disch := omega) only [b_330_2, ↓w_aload_n_0, ↓w_iload_n_1, ↓w_iload_n_2, ↓w_iinc_2, ↓w_goto, ↓w_if_icmp_ge, ↓w_invokevirtual_0, stw_0, stw_i, stw_l, stw_r, ofK0, ofK1, ofK2, lst1, lst2, lkill, kont_none, kont_some, Int.reduceToNat, List.length_cons, List.length_nil, Nat.reduceAdd, Nat.reduceLeDiff, Nat.zero_le, true_and, and_true, if_true, if_false, ne_eq, Int.reduceEq, Int.reduceNeg, not_false_eq_true, not_true_eq_false, ↓reduceIte, Int.reduceLT, Int.reduceLE, and_self, or_true, true_or, or_false, false_or, false_and, and_false, ah_t_w, ah_m_w, ah_n_w, lst1_0, List.tail_cons, w32_i, zbd, lst2_0, mt_1036a hG1.1]
    refine c_332 hG1 hH hF (by omega) f75 hch hv (fun h2 hG2 hF2 hO2 _ => ?_)
    have ez := @zdy_0 h1 th T nw _ hG1 hF hv
    have et := fun q i hi => @zdy_th h1 th T nw _ hG1 hv q i hi
    rw [zdy_ab] at hG2 hF2 ez et
    simp (disch := omega) only [b_330_2, ↓w_aload_n_0, ↓w_iload_n_1, ↓w_iload_n_2, ↓w_iinc_2, ↓w_goto, ↓w_if_icmp_ge, ↓w_invokevirtual_0, stw_0, stw_i, stw_l, stw_r, ofK0, ofK1, ofK2, lst1, lst2, lkill, kont_none, kont_some, Int.reduceToNat, List.length_cons, List.length_nil, Nat.reduceAdd, Nat.reduceLeDiff, Nat.zero_le, true_and, and_true, if_true, if_false, ne_eq, Int.reduceEq, Int.reduceNeg, not_false_eq_true, not_true_eq_false, ↓reduceIte, Int.reduceLT, Int.reduceLE, and_self, or_true, true_or, or_false, false_or, false_and, and_false, ah_t_w, ah_m_w, ah_n_w, lst1_0, List.tail_cons, w32_i, zbd, lst2_0]
    simp only [zds] at hR
    refine ih (k + 1) _ _ _ (by omega) (by omega) hG2 hF2 (by show zdy T nw th (zbe T nw _ 0 0) 0 + j ≤ 5000; rw [ez]; omega) (Off_tr hO1' (Off_mono (fun r i w => Or.inr w) hO2)) (fun q i hi => ?_) hR
    rw [et q i hi]; exact hth q i hi
theorem c_330 (hG : MG T nw h) (hF : FV nw) (hH : HV T) (hD0 : zdd T h 0 = D0) (hD1 : zdd T h 1 = D1) (b0 : 1 ≤ D0 ∧ D0 ≤ 3) (b1 : 1 ≤ D1 ∧ D1 ≤ 3) (e75 : ah_m h 1036 75 = th) (hn : 0 ≤ n ∧ n ≤ 1000) (hd : nw 0 + n ≤ 5000) (hQ : ∀ h', MG T (zds T th D0 D1 n.toNat nw) h' → FV (zds T th D0 D1 n.toNat nw) → Off WD h h' → (th ≠ 0 → ∀ i, i < 0 ∨ 24 ≤ i → zds T th D0 D1 n.toNat nw i = nw i) → Q (.inl none) h') : wpC (d + 11) 330 [.inr (.inr 1036), .inl n] h Q := by
  rw [wpC_B]; refine ⟨⟨Nat.zero_lt_succ _, Nat.le_of_ble_eq_true rfl⟩, ?_⟩; simp only [lent]
  simp (disch := omega) only [q_330_0, b_330_0, ↓w_iconst, ↓w_istore_n_2, ↓w_nop, stw_0, stw_i, stw_l, stw_r, ofK0, ofK1, ofK2, lst1, lst2, lkill, kont_none, kont_some, Int.reduceToNat, List.length_cons, List.length_nil, Nat.reduceAdd, Nat.reduceLeDiff, Nat.zero_le, true_and, and_true, if_true, if_false, ne_eq, Int.reduceEq, Int.reduceNeg, not_false_eq_true, not_true_eq_false, ↓reduceIte, Int.reduceLT, Int.reduceLE, and_self, or_true, true_or, or_false, false_or, false_and, and_false, ah_t_w, ah_m_w, ah_n_w, lst1_0, List.tail_cons, w32_i, zbd, lst2_0]
  refine l_330 hH hD0 hD1 b0 b1 e75 hn (R := zds T th D0 D1 n.toNat nw) (fun h' a b c e => hQ h' a b c (by rw [g_1083 hG] at e; exact e)) n.toNat 0 nw _ _ (by omega) (by omega) hG hF (by omega) Off_rfl (fun _ i _ => by rw [g_1083 hG]) rfl
/-! thought begins, ends -/
def Asd (nw : Int → Int) (h : AH) : Prop := (∀ i, 0 ≤ i → i < 24 → ah_m h 1084 i = nw i) ∧ ah_m h 1036 75 = 1
theorem t_329 (hG : MG T nw h) (hQ : ∀ h', MG T nw h' → Asd nw h' → Off WT h h' → zdd T h' = zdd T h → (∀ i, i ≠ 75 → ah_m h' 1036 i = ah_m h 1036 i) → Q (.inl none) h') : wpC (d + 1) 329 [.inr (.inr 1036)] h Q := by
  refine c_329 hG.1 (fun h' hO hi e => ?_)
  refine hQ h' (MG_off hG hO (fun r i w => by unfold fre; omega)) ⟨fun i a b => ?_, e⟩ (Off_mono (fun r i w => by unfold WT; omega) hO) (zdd_off hO (fun i a => by omega)) (fun i hi => hO.2 _ _ (by omega))
  rw [hi i a b, g_1083 hG]
theorem Asd_off {W : Int → Int → Prop} {h' : AH} (hA : Asd nw h) (hO : Off W h h') (hW : ∀ r i, W r i → r ≠ 1084 ∧ (r = 1036 → i ≠ 75)) : Asd nw h' :=
  ⟨fun i a b => by rw [hO.2 _ _ (fun w => (hW _ _ w).1 rfl)]; exact hA.1 i a b, by rw [hO.2 _ _ (fun w => (hW _ _ w).2 rfl rfl)]; exact hA.2⟩
theorem t_342 {r : Int → Int} (hG : MG T r h) (hA : Asd nw h) (hN : NV T nw) (hr : ∀ i, i < 0 ∨ 24 ≤ i → r i = nw i) (hQ : ∀ h', MG T nw h' → Asd nw h' → Off W83 h h' → Q (.inl none) h') : wpC (d + 1) 342 [.inr (.inr 1036)] h Q := by
  refine c_342 hG.1 (fun h' hO hi => ?_)
  have e : ah_m h' 1083 = nw := by
    funext i; rw [hi i]
    by_cases q : 0 ≤ i ∧ i < 24
    · rw [if_pos q]; exact hA.1 i q.1 q.2
    · rw [if_neg q, g_1083 hG]; exact hr i (by omega)
  exact hQ h' (MG_row hG e hN hO) (Asd_off hA hO (fun r i w => by omega)) hO
theorem t_341 {r : Int → Int} (hG : MG T r h) (hA : Asd nw h) (hN : NV T nw) (hr : ∀ i, i < 0 ∨ 24 ≤ i → r i = nw i) (hQ : ∀ h', MG T nw h' → Off (fun r i => r = 1083 ∨ (r = 1036 ∧ i = 75)) h h' → ah_m h' 1036 75 = 0 → Q (.inl none) h') : wpC (d + 2) 341 [.inr (.inr 1036)] h Q := by
  refine c_341 hG.1 (fun h' hO hi e0 => ?_)
  have e : ah_m h' 1083 = nw := by
    funext i; rw [hi i]
    by_cases q : 0 ≤ i ∧ i < 24
    · rw [if_pos q]; exact hA.1 i q.1 q.2
    · rw [if_neg q, g_1083 hG]; exact hr i (by omega)
  exact hQ h' (MG_gen hG e hN hO (fun r i w => ⟨by unfold fre; omega, by omega⟩)) hO e0
theorem zdd_x (hX : MX h) : zdd T h 0 = T 1074 6 ∧ zdd T h 1 = T 1074 7 := by
  unfold zdd; rw [hX.2, if_neg (by decide), if_neg (by decide)]; exact ⟨rfl, rfl⟩
theorem WDA {r i : Int} (w : WD r i) : r ≠ 1084 ∧ (r = 1036 → i ≠ 75) := by unfold WD Wc Wy Wq at w; omega
theorem ahd_i {isb lo hi : Int} (hA : zahd nw isb n lo hi) : (if isb ≠ 0 ∧ (lo ≤ n ∧ n ≤ hi) ∧ nw 0 + n ≤ 999 then (1 : Int) else 0) = 1 := if_pos hA
theorem c_327 (hG : MG T nw h) (hF : FV nw) (hH : HV T) (hL : ah_m h 1036 58 ≠ 0 → LV T) (hX : MX h)
    (hQ : ∀ h', MG T nw h' → MX h' → Off WT h h' → Q (.inl (some (.inl (if (ah_m h 1036 58 ≠ 0 ∧ (0 ≤ n ∧ n ≤ 20) ∧ nw 0 + n ≤ 999) ∧ (0 ≤ w ∧ w ≤ 3) then zlat T (zds T 1 (T 1074 6) (T 1074 7) n.toNat nw) w else -1)))) h') : wpC (d + 12) 327 [.inr (.inr 1036), .inl n, .inl w] h Q := by
  rw [wpC_B]; refine ⟨⟨Nat.zero_lt_succ _, Nat.le_of_ble_eq_true rfl⟩, ?_⟩; simp only [lent]
  by_cases e1 : ah_m h 1036 58 ≠ 0 ∧ (0 ≤ n ∧ n ≤ 20) ∧ nw 0 + n ≤ 999
  · by_cases e2 : 0 ≤ w ∧ w ≤ 3
    · rw [if_pos ⟨e1, e2⟩] at hQ
      have hL := hL e1.1
      simp (disch := omega) only [q_327_0, b_327_0, q_327_25, b_327_25, ↓w_iconst, ↓w_bipush, ↓w_lconst, ↓w_ldc2_w, ↓w_aload_n_0, ↓w_iload_n_1, ↓w_iload_n_2, ↓w_i2l, ↓w_nop, ↓w_goto, ↓w_ifCond_eq, ↓w_ifCond_ne, ↓w_if_icmp_ge, ↓w_invokevirtual_0, ↓w_invokevirtual_1, ↓w_invokestatic_3, ↓w_invokevirtual_3, stw_0, stw_i, stw_l, stw_r, ofK0, ofK1, ofK2, lst1, lst2, lkill, kont_none, kont_some, Int.reduceToNat, List.length_cons, List.length_nil, Nat.reduceAdd, Nat.reduceLeDiff, Nat.zero_le, true_and, and_true, if_true, if_false, ne_eq, Int.reduceEq, Int.reduceNeg, not_false_eq_true, not_true_eq_false, ↓reduceIte, Int.reduceLT, Int.reduceLE, and_self, or_true, true_or, or_false, false_or, false_and, and_false, ah_t_w, ah_m_w, ah_n_w, lst1_0, List.tail_cons, w32_i, zbd, lst2_0, mt_1036a hG.1, c_328 hG hF, c_246, e1, e2]
      refine t_329 hG (fun h1 hG1 hA1 hO1 hd1 hs1 => ?_)
      simp (disch := omega) only [b_327_25, ↓w_iconst, ↓w_aload_n_0, ↓w_iload_n_1, ↓w_iload_n_2, ↓w_goto, ↓w_if_icmp_ge, ↓w_invokevirtual_0, ↓w_invokevirtual_1, stw_0, stw_i, stw_l, stw_r, ofK0, ofK1, ofK2, lst1, lst2, lkill, kont_none, kont_some, Int.reduceToNat, List.length_cons, List.length_nil, Nat.reduceAdd, Nat.reduceLeDiff, Nat.zero_le, true_and, and_true, if_true, if_false, ne_eq, Int.reduceEq, Int.reduceNeg, not_false_eq_true, not_true_eq_false, ↓reduceIte, Int.reduceLT, Int.reduceLE, and_self, or_true, true_or, or_false, false_or, false_and, and_false, ah_t_w, ah_m_w, ah_n_w, lst1_0, List.tail_cons, w32_i, zbd, lst2_0, mt_1036a hG1.1]
      have hz := @zdd_x h T hX
      refine c_330 hG1 hF hH (by rw [hd1]; exact hz.1) (by rw [hd1]; exact hz.2) ⟨hL.1.1, by have := hL.1.2; omega⟩ ⟨hL.2.1, by have := hL.2.2; omega⟩ hA1.2 ⟨e1.2.1.1, by omega⟩ (by omega) (fun h2 hG2 hF2 hO2 hr2 => ?_)
      have hA2 := Asd_off hA1 hO2 (fun r i w => WDA w)
      generalize eR : zds T 1 (T 1074 6) (T 1074 7) n.toNat nw = R at *
      have hr2 := hr2 (by decide)
      have fin : ∀ z, z = zlat T R w → wpB (d + 11) 327 71 [some (.inr (.inr 1036)), some (.inl n), some (.inl w)] [.inl z] h2 Q := by
        intro z ez
        simp (disch := omega) only [q_327_71, b_327_71, ↓w_aload_n_0, ↓w_iload_n_3, ↓w_istore_n_3, ↓w_ireturn0, ↓w_invokevirtual_0, stw_0, stw_i, stw_l, stw_r, ofK0, ofK1, ofK2, lst1, lst2, lkill, kont_none, kont_some, Int.reduceToNat, List.length_cons, List.length_nil, Nat.reduceAdd, Nat.reduceLeDiff, Nat.zero_le, true_and, and_true, if_true, if_false, ne_eq, Int.reduceEq, Int.reduceNeg, not_false_eq_true, not_true_eq_false, ↓reduceIte, Int.reduceLT, Int.reduceLE, and_self, or_true, true_or, or_false, false_or, false_and, and_false, ah_t_w, ah_m_w, ah_n_w, lst1_0, List.tail_cons, w32_i, zbd, lst2_0, mt_1036a hG2.1]
        refine t_341 hG2 hA2 hG.2.2.2.2 hr2 (fun h3 hG3 hO3 e3 => ?_)
        simp (disch := omega) only [b_327_71, ↓w_aload_n_0, ↓w_iload_n_3, ↓w_istore_n_3, ↓w_ireturn0, ↓w_invokevirtual_0, stw_0, stw_i, stw_l, stw_r, ofK0, ofK1, ofK2, lst1, lst2, lkill, kont_none, kont_some, Int.reduceToNat, List.length_cons, List.length_nil, Nat.reduceAdd, Nat.reduceLeDiff, Nat.zero_le, true_and, and_true, if_true, if_false, ne_eq, Int.reduceEq, Int.reduceNeg, not_false_eq_true, not_true_eq_false, ↓reduceIte, Int.reduceLT, Int.reduceLE, and_self, or_true, true_or, or_false, false_or, false_and, and_false, ah_t_w, ah_m_w, ah_n_w, lst1_0, List.tail_cons, w32_i, zbd, lst2_0]
        rw [ez]
        have hO03 : Off WT h h3 := Off_tr hO1 (Off_tr (Off_mono (fun r i w => Or.inl w) hO2) (Off_mono (fun r i w => by unfold WT WD Wy; omega) hO3))
        refine hQ h3 hG3 ⟨e3, ?_⟩ hO03
        rw [hO3.2 _ _ (by omega), hO2.2 _ _ (by unfold WD Wc Wy Wq; omega), hs1 78 (by decide)]; exact hX.2
      unfold zlat at fin
      by_cases g1 : w < 2
      · rw [if_pos g1] at fin
        simp (disch := omega) only [b_327_25, ↓w_iconst, ↓w_aload_n_0, ↓w_iload_n_1, ↓w_iload_n_2, ↓w_goto, ↓w_if_icmp_ge, ↓w_invokevirtual_0, ↓w_invokevirtual_1, stw_0, stw_i, stw_l, stw_r, ofK0, ofK1, ofK2, lst1, lst2, lkill, kont_none, kont_some, Int.reduceToNat, List.length_cons, List.length_nil, Nat.reduceAdd, Nat.reduceLeDiff, Nat.zero_le, true_and, and_true, if_true, if_false, ne_eq, Int.reduceEq, Int.reduceNeg, not_false_eq_true, not_true_eq_false, ↓reduceIte, Int.reduceLT, Int.reduceLE, and_self, or_true, true_or, or_false, false_or, false_and, and_false, ah_t_w, ah_m_w, ah_n_w, lst1_0, List.tail_cons, w32_i, zbd, lst2_0, mt_1036a hG2.1, g1, c_297 hG2]
        exact fin _ rfl
      · rw [if_neg g1] at fin
        by_cases g2 : w = 2
        · rw [if_pos g2] at fin
          simp (disch := omega) only [b_327_25, q_327_47, b_327_47, ↓w_iconst, ↓w_aload_n_0, ↓w_iload_n_1, ↓w_iload_n_2, ↓w_goto, ↓w_if_icmp_ne, ↓w_if_icmp_ge, ↓w_invokevirtual_0, ↓w_invokevirtual_1, stw_0, stw_i, stw_l, stw_r, ofK0, ofK1, ofK2, lst1, lst2, lkill, kont_none, kont_some, Int.reduceToNat, List.length_cons, List.length_nil, Nat.reduceAdd, Nat.reduceLeDiff, Nat.zero_le, true_and, and_true, if_true, if_false, ne_eq, Int.reduceEq, Int.reduceNeg, not_false_eq_true, not_true_eq_false, ↓reduceIte, Int.reduceLT, Int.reduceLE, and_self, or_true, true_or, or_false, false_or, false_and, and_false, ah_t_w, ah_m_w, ah_n_w, lst1_0, List.tail_cons, w32_i, zbd, lst2_0, mt_1036a hG2.1, g1, g2, c_298 hG2 hF2]
          rw [g2] at fin
          exact fin _ rfl
        · rw [if_neg g2] at fin
          cases g3 : (zcr T R || (zmv T R).isEmpty)
          · rw [g3] at fin
            simp (disch := omega) only [b_327_25, q_327_47, b_327_47, q_327_59, b_327_59, q_327_70, b_327_70, ↓w_iconst, ↓w_aload_n_0, ↓w_iload_n_1, ↓w_iload_n_2, ↓w_nop, ↓w_goto, ↓w_ifCond_eq, ↓w_if_icmp_ne, ↓w_if_icmp_ge, ↓w_invokevirtual_0, ↓w_invokevirtual_1, stw_0, stw_i, stw_l, stw_r, ofK0, ofK1, ofK2, lst1, lst2, lkill, kont_none, kont_some, Int.reduceToNat, List.length_cons, List.length_nil, Nat.reduceAdd, Nat.reduceLeDiff, Nat.zero_le, true_and, and_true, if_true, if_false, ne_eq, Int.reduceEq, Int.reduceNeg, not_false_eq_true, not_true_eq_false, ↓reduceIte, Int.reduceLT, Int.reduceLE, and_self, or_true, true_or, or_false, false_or, false_and, and_false, ah_t_w, ah_m_w, ah_n_w, lst1_0, List.tail_cons, w32_i, zbd, lst2_0, mt_1036a hG2.1, c_279 hG2, g1, g2, g3, zb_f]
            exact fin _ rfl
          · rw [g3] at fin
            simp (disch := omega) only [b_327_25, q_327_47, b_327_47, q_327_59, b_327_59, q_327_70, b_327_70, ↓w_iconst, ↓w_aload_n_0, ↓w_iload_n_1, ↓w_iload_n_2, ↓w_nop, ↓w_goto, ↓w_ifCond_eq, ↓w_if_icmp_ne, ↓w_if_icmp_ge, ↓w_invokevirtual_0, ↓w_invokevirtual_1, stw_0, stw_i, stw_l, stw_r, ofK0, ofK1, ofK2, lst1, lst2, lkill, kont_none, kont_some, Int.reduceToNat, List.length_cons, List.length_nil, Nat.reduceAdd, Nat.reduceLeDiff, Nat.zero_le, true_and, and_true, if_true, if_false, ne_eq, Int.reduceEq, Int.reduceNeg, not_false_eq_true, not_true_eq_false, ↓reduceIte, Int.reduceLT, Int.reduceLE, and_self, or_true, true_or, or_false, false_or, false_and, and_false, ah_t_w, ah_m_w, ah_n_w, lst1_0, List.tail_cons, w32_i, zbd, lst2_0, mt_1036a hG2.1, c_279 hG2, g1, g2, g3, zb_t]
            exact fin _ rfl
    · rw [if_neg (fun q => e2 q.2)] at hQ
      simp (disch := omega) only [q_327_0, b_327_0, q_327_23, b_327_23, ↓w_iconst, ↓w_bipush, ↓w_lconst, ↓w_ldc2_w, ↓w_aload_n_0, ↓w_iload_n_1, ↓w_iload_n_2, ↓w_i2l, ↓w_nop, ↓w_ifCond_eq, ↓w_ifCond_ne, ↓w_ireturn0, ↓w_invokestatic_3, ↓w_invokevirtual_3, stw_0, stw_i, stw_l, stw_r, ofK0, ofK1, ofK2, lst1, lst2, lkill, kont_none, kont_some, Int.reduceToNat, List.length_cons, List.length_nil, Nat.reduceAdd, Nat.reduceLeDiff, Nat.zero_le, true_and, and_true, if_true, if_false, ne_eq, Int.reduceEq, Int.reduceNeg, not_false_eq_true, not_true_eq_false, ↓reduceIte, Int.reduceLT, Int.reduceLE, and_self, or_true, true_or, or_false, false_or, false_and, and_false, ah_t_w, ah_m_w, ah_n_w, lst1_0, List.tail_cons, w32_i, zbd, lst2_0, mt_1036a hG.1, c_328 hG hF, c_246, e1, e2]
      exact hQ _ hG hX Off_rfl
  · rw [if_neg (fun q => e1 q.1)] at hQ
    simp (disch := omega) only [q_327_0, b_327_0, q_327_23, b_327_23, ↓w_iconst, ↓w_bipush, ↓w_lconst, ↓w_ldc2_w, ↓w_aload_n_0, ↓w_iload_n_1, ↓w_iload_n_2, ↓w_i2l, ↓w_nop, ↓w_ifCond_eq, ↓w_ifCond_ne, ↓w_ireturn0, ↓w_invokestatic_3, ↓w_invokevirtual_3, stw_0, stw_i, stw_l, stw_r, ofK0, ofK1, ofK2, lst1, lst2, lkill, kont_none, kont_some, Int.reduceToNat, List.length_cons, List.length_nil, Nat.reduceAdd, Nat.reduceLeDiff, Nat.zero_le, true_and, and_true, if_true, if_false, ne_eq, Int.reduceEq, Int.reduceNeg, not_false_eq_true, not_true_eq_false, ↓reduceIte, Int.reduceLT, Int.reduceLE, and_self, or_true, true_or, or_false, false_or, false_and, and_false, ah_t_w, ah_m_w, ah_n_w, lst1_0, List.tail_cons, w32_i, zbd, lst2_0, mt_1036a hG.1, c_328 hG hF, c_246, if_neg e1]
    exact hQ _ hG hX Off_rfl
end THK
