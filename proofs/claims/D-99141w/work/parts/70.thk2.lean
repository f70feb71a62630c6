/-! ===== M: crop, spare, deeper ===== -/
def zspf (T : Int → Int → Int) (nw : Int → Int) (f n k : Int) : Int := zds T 1 (T 1074 6) (T 1074 7) (n - 1).toNat (zdy T nw 1 (zpc T nw k 0 0)) (18 + f)
def zsp (F : Int → Int) : Nat → Int → Int × Int → Int × Int
  | 0, _, b => b
  | j + 1, k, b => zsp F j (k + 1) (if b.2 < F k then (k, F k) else b)
def zall (T : Int → Int → Int) (nw : Int → Int) : Nat := if zcr T nw = true then 0 else (zmv T nw).length
section THK2
variable {d : Nat} {h h0 : AH} {Q : QQ} {x y z m k s l w a b v n t p th D0 D1 f : Int} {T : Int → Int → Int} {nw g : Int → Int} {c : Int × Int × Int}
set_option maxHeartbeats 2000000
theorem c_343 (hG : MG T nw h) (hF : FV nw) (hH : HV T) (hL : ah_m h 1036 58 ≠ 0 → LV T) (hX : MX h)
    (hQ : ∀ h', MG T nw h' → MX h' → Off WT h h' → Q (.inl (some (.inl (if (0 ≤ f ∧ f < T 1072 5) ∧ (ah_m h 1036 58 ≠ 0 ∧ (0 ≤ n ∧ n ≤ 20) ∧ nw 0 + n ≤ 999) then zds T 1 (T 1074 6) (T 1074 7) n.toNat nw (18 + f) else -1)))) h') : wpC (d + 12) 343 [.inr (.inr 1036), .inl f, .inl n] h Q := by
  have h5 := hG.2.2.2.1.2.2.1
  rw [wpC_B]; refine ⟨⟨Nat.zero_lt_succ _, Nat.le_of_ble_eq_true rfl⟩, ?_⟩; simp only [lent]
  by_cases e2 : 0 ≤ f ∧ f < T 1072 5
  · by_cases e1 : ah_m h 1036 58 ≠ 0 ∧ (0 ≤ n ∧ n ≤ 20) ∧ nw 0 + n ≤ 999
    · rw [if_pos ⟨e2, e1⟩] at hQ
      have hL := hL e1.1
      simp (disch := omega) only [q_343_0, b_343_0, q_343_21, b_343_21, ↓w_iconst, ↓w_bipush, ↓w_aload_n_0, ↓w_iload_n_1, ↓w_iload_n_2, ↓w_iload_n_3, ↓w_istore_n_3, ↓w_iadd, ↓w_getfield, ↓w_iaload, ↓w_nop, ↓w_ifCond_eq, ↓w_ifCond_ne, ↓w_ireturn0, ↓w_invokevirtual_0, ↓w_invokevirtual_1, ↓w_invokevirtual_3, stw_0, stw_i, stw_l, stw_r, ofK0, ofK1, ofK2, lst1, lst2, lkill, kont_none, kont_some, Int.reduceToNat, List.length_cons, List.length_nil, Nat.reduceAdd, Nat.reduceLeDiff, Nat.zero_le, true_and, and_true, if_true, if_false, ne_eq, Int.reduceEq, Int.reduceNeg, not_false_eq_true, not_true_eq_false, ↓reduceIte, Int.reduceLT, Int.reduceLE, and_self, or_true, true_or, or_false, false_or, false_and, and_false, ah_t_w, ah_m_w, ah_n_w, lst1_0, List.tail_cons, w32_i, zbd, lst2_0, mt_1036a hG.1, mt_1083a hG.1, mt_1083b hG.1, mf_62 hG.1, g_1083 hG, c_305 hG, c_328 hG hF, e1, e2]
      refine t_329 hG (fun h1 hG1 hA1 hO1 hd1 hs1 => ?_)
      simp (disch := omega) only [b_343_21, ↓w_bipush, ↓w_aload_n_0, ↓w_iload_n_1, ↓w_iload_n_2, ↓w_iload_n_3, ↓w_istore_n_3, ↓w_iadd, ↓w_getfield, ↓w_iaload, ↓w_ireturn0, ↓w_invokevirtual_0, ↓w_invokevirtual_1, stw_0, stw_i, stw_l, stw_r, ofK0, ofK1, ofK2, lst1, lst2, lkill, kont_none, kont_some, Int.reduceToNat, List.length_cons, List.length_nil, Nat.reduceAdd, Nat.reduceLeDiff, Nat.zero_le, true_and, and_true, if_true, if_false, ne_eq, Int.reduceEq, Int.reduceNeg, not_false_eq_true, not_true_eq_false, ↓reduceIte, Int.reduceLT, Int.reduceLE, and_self, or_true, true_or, or_false, false_or, false_and, and_false, ah_t_w, ah_m_w, ah_n_w, lst1_0, List.tail_cons, w32_i, zbd, lst2_0, mt_1036a hG1.1, mt_1083a hG1.1, mt_1083b hG1.1, mf_62 hG1.1, g_1083 hG1]
      have hz := @zdd_x h T hX
      refine c_330 hG1 hF hH (by rw [hd1]; exact hz.1) (by rw [hd1]; exact hz.2) ⟨hL.1.1, by have := hL.1.2; omega⟩ ⟨hL.2.1, by have := hL.2.2; omega⟩ hA1.2 ⟨e1.2.1.1, by omega⟩ (by omega) (fun h2 hG2 hF2 hO2 hr2 => ?_)
      have hA2 := Asd_off hA1 hO2 (fun r i w => WDA w)
      generalize eR : zds T 1 (T 1074 6) (T 1074 7) n.toNat nw = R at *
      have hr2 := hr2 (by decide)
      simp (disch := omega) only [b_343_21, ↓w_bipush, ↓w_aload_n_0, ↓w_iload_n_1, ↓w_iload_n_2, ↓w_iload_n_3, ↓w_istore_n_3, ↓w_iadd, ↓w_getfield, ↓w_iaload, ↓w_ireturn0, ↓w_invokevirtual_0, ↓w_invokevirtual_1, stw_0, stw_i, stw_l, stw_r, ofK0, ofK1, ofK2, lst1, lst2, lkill, kont_none, kont_some, Int.reduceToNat, List.length_cons, List.length_nil, Nat.reduceAdd, Nat.reduceLeDiff, Nat.zero_le, true_and, and_true, if_true, if_false, ne_eq, Int.reduceEq, Int.reduceNeg, not_false_eq_true, not_true_eq_false, ↓reduceIte, Int.reduceLT, Int.reduceLE, and_self, or_true, true_or, or_false, false_or, false_and, and_false, ah_t_w, ah_m_w, ah_n_w, lst1_0, List.tail_cons, w32_i, zbd, lst2_0, mt_1036a hG2.1, mt_1083a hG2.1, mt_1083b hG2.1, mf_62 hG2.1, g_1083 hG2]
      refine t_341 hG2 hA2 hG.2.2.2.2 hr2 (fun h3 hG3 hO3 e3 => ?_)
      simp (disch := omega) only [b_343_21, ↓w_bipush, ↓w_aload_n_0, ↓w_iload_n_1, ↓w_iload_n_2, ↓w_iload_n_3, ↓w_istore_n_3, ↓w_iadd, ↓w_getfield, ↓w_iaload, ↓w_ireturn0, ↓w_invokevirtual_0, ↓w_invokevirtual_1, stw_0, stw_i, stw_l, stw_r, ofK0, ofK1, ofK2, lst1, lst2, lkill, kont_none, kont_some, Int.reduceToNat, List.length_cons, List.length_nil, Nat.reduceAdd, Nat.reduceLeDiff, Nat.zero_le, true_and, and_true, if_true, if_false, ne_eq, Int.reduceEq, Int.reduceNeg, not_false_eq_true, not_true_eq_false, ↓reduceIte, Int.reduceLT, Int.reduceLE, and_self, or_true, true_or, or_false, false_or, false_and, and_false, ah_t_w, ah_m_w, ah_n_w, lst1_0, List.tail_cons, w32_i, zbd, lst2_0]
      have hO03 : Off WT h h3 := Off_tr hO1 (Off_tr (Off_mono (fun r i w => Or.inl w) hO2) (Off_mono (fun r i w => by unfold WT WD Wy; omega) hO3))
      refine hQ h3 hG3 ⟨e3, ?_⟩ hO03
      rw [hO3.2 _ _ (by omega), hO2.2 _ _ (by unfold WD Wc Wy Wq; omega), hs1 78 (by decide)]; exact hX.2
    · rw [if_neg (fun q => e1 q.2)] at hQ
      simp (disch := omega) only [q_343_0, b_343_0, q_343_19, b_343_19, ↓w_iconst, ↓w_bipush, ↓w_aload_n_0, ↓w_iload_n_1, ↓w_iload_n_2, ↓w_nop, ↓w_ifCond_eq, ↓w_ifCond_ne, ↓w_ireturn0, ↓w_invokevirtual_1, ↓w_invokevirtual_3, stw_0, stw_i, stw_l, stw_r, ofK0, ofK1, ofK2, lst1, lst2, lkill, kont_none, kont_some, Int.reduceToNat, List.length_cons, List.length_nil, Nat.reduceAdd, Nat.reduceLeDiff, Nat.zero_le, true_and, and_true, if_true, if_false, ne_eq, Int.reduceEq, Int.reduceNeg, not_false_eq_true, not_true_eq_false, ↓reduceIte, Int.reduceLT, Int.reduceLE, and_self, or_true, true_or, or_false, false_or, false_and, and_false, ah_t_w, ah_m_w, ah_n_w, lst1_0, List.tail_cons, w32_i, zbd, lst2_0, mt_1036a hG.1, c_305 hG, c_328 hG hF, e2, if_neg e1]
      exact hQ _ hG hX Off_rfl
  · rw [if_neg (fun q => e2 q.1)] at hQ
    simp (disch := omega) only [q_343_0, b_343_0, q_343_19, b_343_19, ↓w_iconst, ↓w_bipush, ↓w_aload_n_0, ↓w_iload_n_1, ↓w_iload_n_2, ↓w_nop, ↓w_ifCond_eq, ↓w_ifCond_ne, ↓w_ireturn0, ↓w_invokevirtual_1, ↓w_invokevirtual_3, stw_0, stw_i, stw_l, stw_r, ofK0, ofK1, ofK2, lst1, lst2, lkill, kont_none, kont_some, Int.reduceToNat, List.length_cons, List.length_nil, Nat.reduceAdd, Nat.reduceLeDiff, Nat.zero_le, true_and, and_true, if_true, if_false, ne_eq, Int.reduceEq, Int.reduceNeg, not_false_eq_true, not_true_eq_false, ↓reduceIte, Int.reduceLT, Int.reduceLE, and_self, or_true, true_or, or_false, false_or, false_and, and_false, ah_t_w, ah_m_w, ah_n_w, lst1_0, List.tail_cons, w32_i, zbd, lst2_0, mt_1036a hG.1, c_305 hG, c_328 hG hF, if_neg e2]
    exact hQ _ hG hX Off_rfl
theorem zpc_v (hT : TV T) : zcv T (zpc T nw w a b) := by
  unfold zpc; split
  · exact Or.inl rfl
  · rename_i e
    cases e2 : zpk (zmv T nw) 0 w with
    | none => exact Or.inl rfl
    | some q =>
      have := zmv_mem hT (zpk_mem _ _ _ e2)
      exact Or.inr ⟨by simp; omega, this.1, this.2.1, this.2.2.2.1, this.2.2.2.2.1⟩
theorem zpc_ab : ((zpc T nw w a b).1 = -1 ∧ (zpc T nw w 0 0).1 = -1) ∨ zpc T nw w a b = zpc T nw w 0 0 := by
  unfold zpc; split
  · exact Or.inl ⟨rfl, rfl⟩
  · cases e2 : zpk (zmv T nw) 0 w with
    | none => exact Or.inl ⟨rfl, rfl⟩
    | some q => exact Or.inr rfl
theorem zdy_pc : zdy T nw th (zpc T nw w a b) = zdy T nw th (zpc T nw w 0 0) := by
  rcases @zpc_ab w a b T nw with e | e
  · unfold zdy; rw [if_pos e.1, if_pos e.2]
  · rw [e]
theorem zall_b (hT : TV T) : zall T nw ≤ 200 := by
  unfold zall; split
  · decide
  · exact zmv_len hT
theorem zall_i : (if zcr T nw = true then (0 : Int) else (zmv T nw).length) = zall T nw := by
  unfold zall; split <;> rfl
theorem l_344 (hH : HV T) (hL : LV T) (hF : FV nw) (hT : TV T) (hN : NV T nw) (hX : ah_m h 1036 78 = -1) (hf : 0 ≤ f ∧ f < T 1072 5) (hn : 1 ≤ n ∧ n ≤ 6) (hd : nw 0 + n ≤ 999) {R : Int × Int} (hQ : ∀ h' tl, MG T nw h' → Asd nw h' → Off WT h h' → ah_m h' 1036 78 = -1 → wpB (d + 11) 344 113 (some (.inr (.inr 1036)) :: some (.inl f) :: some (.inl n) :: some (.inl w) :: some (.inl R.1) :: some (.inl R.2) :: tl) [] h' Q) :
    ∀ (j : Nat) (k a b : Int) tl h', 0 ≤ k → k + j = (zall T nw : Int) → MG T nw h' → Asd nw h' → Off WT h h' → ah_m h' 1036 78 = -1 → zsp (zspf T nw f n) j k (a, b) = R → wpB (d + 11) 344 50 (some (.inr (.inr 1036)) :: some (.inl f) :: some (.inl n) :: some (.inl w) :: some (.inl a) :: some (.inl b) :: some (.inl (zall T nw)) :: some (.inl k) :: tl) [] h' Q := by
  have h5 := hT.2.2.1
  have hb := @zall_b T nw hT
  intro j
  induction j with
  | zero =>
    intro k a b tl h' k0 k1 hG hA hO e78 hR
    have hlt : ¬ k < (zall T nw : Int) := by omega
    simp (disch := omega) only [q_344_50, b_344_50, ↓w_iconst, ↓w_bipush, ↓w_aload_n_0, ↓w_iload_n_1, ↓w_iload_n_2, ↓w_iload_5, ↓w_iload_6, ↓w_iload_7, ↓w_iload_8, ↓w_istore, ↓w_iadd, ↓w_isub, ↓w_getfield, ↓w_iaload, ↓w_goto, ↓w_if_icmp_ge, ↓w_if_icmp_gt, ↓w_invokevirtual_0, ↓w_invokevirtual_1, stw_0, stw_i, stw_l, stw_r, ofK0, ofK1, ofK2, lst1, lst2, lkill, kont_none, kont_some, Int.reduceToNat, List.length_cons, List.length_nil, Nat.reduceAdd, Nat.reduceLeDiff, Nat.zero_le, true_and, and_true, if_true, if_false, ne_eq, Int.reduceEq, Int.reduceNeg, not_false_eq_true, not_true_eq_false, ↓reduceIte, Int.reduceLT, Int.reduceLE, and_self, or_true, true_or, or_false, false_or, false_and, and_false, ah_t_w, ah_m_w, ah_n_w, lst1_0, List.tail_cons, w32_i, zbd, lst2_0, hlt]
    simp only [zsp] at hR
    subst hR
    exact hQ _ _ hG hA hO e78
  | succ j ih =>
    intro k a b tl h' k0 k1 hG hA hO e78 hR
    have hlt : k < (zall T nw : Int) := by omega
    rw [q_344_50]
    simp (disch := omega) only [b_344_50, ↓w_iconst, ↓w_bipush, ↓w_aload_n_0, ↓w_iload_n_1, ↓w_iload_n_2, ↓w_iload_5, ↓w_iload_6, ↓w_iload_7, ↓w_iload_8, ↓w_istore, ↓w_iadd, ↓w_isub, ↓w_getfield, ↓w_iaload, ↓w_goto, ↓w_if_icmp_ge, ↓w_if_icmp_gt, ↓w_invokevirtual_0, ↓w_invokevirtual_1, stw_0, stw_i, stw_l, stw_r, ofK0, ofK1, ofK2, lst1, lst2, lkill, kont_none, kont_some, Int.reduceToNat, List.length_cons, List.length_nil, Nat.reduceAdd, Nat.reduceLeDiff, Nat.zero_le, true_and, and_true, if_true, if_false, ne_eq, Int.reduceEq, Int.reduceNeg, not_false_eq_true, not_true_eq_false, ↓reduceIte, Int.reduceLT, Int.reduceLE, and_self, or_true, true_or, or_false, false_or, false_and, and_false, ah_t_w, ah_m_w, ah_n_w, lst1_0, List.tail_cons, w32_i, zbd, lst2_0, mt_1036a hG.1, mt_1083a hG.1, mt_1083b hG.1, mf_62 hG.1, g_1083 hG, hlt]
    refine c_308 hG (fun h1 hG1 hO1 hch => ?_)
    have hO1' : Off WD h' h1 := Off_mono (fun r i w => Or.inl (by unfold Wh at w; unfold Wc; omega)) hO1
    have hA1 := Asd_off hA hO1' (fun r i w => WDA w)
    have hv := @zpc_v k (ah_m h' 1036 69) (ah_m h' 1036 70) T nw hT
    simp (disch := omega) only [b_344_50, ↓w_iconst, ↓w_bipush, ↓w_aload_n_0, ↓w_iload_n_1, ↓w_iload_n_2, ↓w_iload_5, ↓w_iload_6, ↓w_iload_7, ↓w_iload_8, ↓w_istore, ↓w_iadd, ↓w_isub, ↓w_getfield, ↓w_iaload, ↓w_goto, ↓w_if_icmp_ge, ↓w_if_icmp_gt, ↓w_invokevirtual_0, ↓w_invokevirtual_1, stw_0, stw_i, stw_l, stw_r, ofK0, ofK1, ofK2, lst1, lst2, lkill, kont_none, kont_some, Int.reduceToNat, List.length_cons, List.length_nil, Nat.reduceAdd, Nat.reduceLeDiff, Nat.zero_le, true_and, and_true, if_true, if_false, ne_eq, Int.reduceEq, Int.reduceNeg, not_false_eq_true, not_true_eq_false, ↓reduceIte, Int.reduceLT, Int.reduceLE, and_self, or_true, true_or, or_false, false_or, false_and, and_false, ah_t_w, ah_m_w, ah_n_w, lst1_0, List.tail_cons, w32_i, zbd, lst2_0, mt_1036a hG1.1, mt_1083a hG1.1, mt_1083b hG1.1, mf_62 hG1.1, g_1083 hG1]
    refine c_332 hG1 hH hF (by omega) hA1.2 hch hv (fun h2 hG2 hF2 hO2 _ => ?_)
    have ez := @zdy_0 h1 1 T nw _ hG1 hF hv
    have et := fun i hi => @zdy_th h1 1 T nw _ hG1 hv (by decide) i hi
    rw [zdy_pc] at hG2 hF2 ez et
    have hO2' : Off WD h' h2 := Off_tr hO1' (Off_mono (fun r i w => Or.inr w) hO2)
    have hA2 := Asd_off hA hO2' (fun r i w => WDA w)
    simp (disch := omega) only [b_344_50, ↓w_iconst, ↓w_bipush, ↓w_aload_n_0, ↓w_iload_n_1, ↓w_iload_n_2, ↓w_iload_5, ↓w_iload_6, ↓w_iload_7, ↓w_iload_8, ↓w_istore, ↓w_iadd, ↓w_isub, ↓w_getfield, ↓w_iaload, ↓w_goto, ↓w_if_icmp_ge, ↓w_if_icmp_gt, ↓w_invokevirtual_0, ↓w_invokevirtual_1, stw_0, stw_i, stw_l, stw_r, ofK0, ofK1, ofK2, lst1, lst2, lkill, kont_none, kont_some, Int.reduceToNat, List.length_cons, List.length_nil, Nat.reduceAdd, Nat.reduceLeDiff, Nat.zero_le, true_and, and_true, if_true, if_false, ne_eq, Int.reduceEq, Int.reduceNeg, not_false_eq_true, not_true_eq_false, ↓reduceIte, Int.reduceLT, Int.reduceLE, and_self, or_true, true_or, or_false, false_or, false_and, and_false, ah_t_w, ah_m_w, ah_n_w, lst1_0, List.tail_cons, w32_i, zbd, lst2_0, mt_1036a hG2.1, mt_1083a hG2.1, mt_1083b hG2.1, mf_62 hG2.1, g_1083 hG2]
    have g78 : ah_m h2 1036 78 = -1 := by rw [hO2'.2 _ _ (by unfold WD Wc Wy Wq; omega)]; exact e78
    have hz : zdd T h2 0 = T 1074 6 ∧ zdd T h2 1 = T 1074 7 := by
      unfold zdd; rw [g78, if_neg (by decide), if_neg (by decide)]; exact ⟨rfl, rfl⟩
    refine c_330 hG2 hF2 hH hz.1 hz.2 ⟨hL.1.1, by have := hL.1.2; omega⟩ ⟨hL.2.1, by have := hL.2.2; omega⟩ hA2.2 ⟨by omega, by omega⟩ (by rw [ez]; omega) (fun h3 hG3 hF3 hO3 hr3 => ?_)
    have hr3 := hr3 (by decide)
    have hA3 := Asd_off hA2 hO3 (fun r i w => WDA w)
    have ev : zds T 1 (T 1074 6) (T 1074 7) (n - 1).toNat (zdy T nw 1 (zpc T nw k 0 0)) (18 + f) = zspf T nw f n k := rfl
    simp (disch := omega) only [b_344_50, ↓w_iconst, ↓w_bipush, ↓w_aload_n_0, ↓w_iload_n_1, ↓w_iload_n_2, ↓w_iload_5, ↓w_iload_6, ↓w_iload_7, ↓w_iload_8, ↓w_istore, ↓w_iadd, ↓w_isub, ↓w_getfield, ↓w_iaload, ↓w_goto, ↓w_if_icmp_ge, ↓w_if_icmp_gt, ↓w_invokevirtual_0, ↓w_invokevirtual_1, stw_0, stw_i, stw_l, stw_r, ofK0, ofK1, ofK2, lst1, lst2, lkill, kont_none, kont_some, Int.reduceToNat, List.length_cons, List.length_nil, Nat.reduceAdd, Nat.reduceLeDiff, Nat.zero_le, true_and, and_true, if_true, if_false, ne_eq, Int.reduceEq, Int.reduceNeg, not_false_eq_true, not_true_eq_false, ↓reduceIte, Int.reduceLT, Int.reduceLE, and_self, or_true, true_or, or_false, false_or, false_and, and_false, ah_t_w, ah_m_w, ah_n_w, lst1_0, List.tail_cons, w32_i, zbd, lst2_0, mt_1036a hG3.1, mt_1083a hG3.1, mt_1083b hG3.1, mf_62 hG3.1, g_1083 hG3, ev]
    refine t_342 hG3 hA3 hN (fun i hi => by rw [hr3 i hi, et i hi]) (fun h4 hG4 hA4 hO4 => ?_)
    have hO4' : Off WT h h4 := Off_tr hO (Off_tr (Off_mono (fun r i w => Or.inl w) hO2') (Off_tr (Off_mono (fun r i w => Or.inl w) hO3) (Off_mono (fun r i w => Or.inl (Or.inr (Or.inl w))) hO4)))
    have f78 : ah_m h4 1036 78 = -1 := by rw [hO4.2 _ _ (by unfold W83; omega), hO3.2 _ _ (by unfold WD Wc Wy Wq; omega)]; exact g78
    simp only [zsp] at hR
    by_cases g : b < zspf T nw f n k
    · rw [if_pos g] at hR
      simp (disch := omega) only [b_344_50, q_344_99, b_344_99, q_344_107, b_344_107, ↓w_iconst, ↓w_bipush, ↓w_aload_n_0, ↓w_iload_n_1, ↓w_iload_n_2, ↓w_iload_5, ↓w_iload_6, ↓w_iload_7, ↓w_iinc_7, ↓w_iload_8, ↓w_istore, ↓w_iadd, ↓w_isub, ↓w_getfield, ↓w_iaload, ↓w_nop, ↓w_goto, ↓w_if_icmp_ge, ↓w_if_icmp_gt, ↓w_invokevirtual_0, ↓w_invokevirtual_1, stw_0, stw_i, stw_l, stw_r, ofK0, ofK1, ofK2, lst1, lst2, lkill, kont_none, kont_some, Int.reduceToNat, List.length_cons, List.length_nil, Nat.reduceAdd, Nat.reduceLeDiff, Nat.zero_le, true_and, and_true, if_true, if_false, ne_eq, Int.reduceEq, Int.reduceNeg, not_false_eq_true, not_true_eq_false, ↓reduceIte, Int.reduceLT, Int.reduceLE, and_self, or_true, true_or, or_false, false_or, false_and, and_false, ah_t_w, ah_m_w, ah_n_w, lst1_0, List.tail_cons, w32_i, zbd, lst2_0, g]
      exact ih (k + 1) _ _ _ _ (by omega) (by omega) hG4 hA4 hO4' f78 hR
    · rw [if_neg g] at hR
      simp (disch := omega) only [b_344_50, q_344_107, b_344_107, ↓w_iconst, ↓w_bipush, ↓w_aload_n_0, ↓w_iload_n_1, ↓w_iload_n_2, ↓w_iload_5, ↓w_iload_6, ↓w_iload_7, ↓w_iinc_7, ↓w_iload_8, ↓w_istore, ↓w_iadd, ↓w_isub, ↓w_getfield, ↓w_iaload, ↓w_goto, ↓w_if_icmp_ge, ↓w_if_icmp_gt, ↓w_invokevirtual_0, ↓w_invokevirtual_1, stw_0, stw_i, stw_l, stw_r, ofK0, ofK1, ofK2, lst1, lst2, lkill, kont_none, kont_some, Int.reduceToNat, List.length_cons, List.length_nil, Nat.reduceAdd, Nat.reduceLeDiff, Nat.zero_le, true_and, and_true, if_true, if_false, ne_eq, Int.reduceEq, Int.reduceNeg, not_false_eq_true, not_true_eq_false, ↓reduceIte, Int.reduceLT, Int.reduceLE, and_self, or_true, true_or, or_false, false_or, false_and, and_false, ah_t_w, ah_m_w, ah_n_w, lst1_0, List.tail_cons, w32_i, zbd, lst2_0, g]
      exact ih (k + 1) _ _ _ _ (by omega) (by omega) hG4 hA4 hO4' f78 hR
theorem c_344 (hG : MG T nw h) (hF : FV nw) (hH : HV T) (hL : ah_m h 1036 58 ≠ 0 → LV T) (hX : MX h)
    (hQ : ∀ h', MG T nw h' → MX h' → Off WT h h' → Q (.inl (some (.inl (if (0 ≤ f ∧ f < T 1072 5) ∧ (ah_m h 1036 58 ≠ 0 ∧ (1 ≤ n ∧ n ≤ 6) ∧ nw 0 + n ≤ 999) ∧ (0 ≤ w ∧ w ≤ 1) then (if w = 0 then (zsp (zspf T nw f n) (zall T nw) 0 (-1, -1)).1 else (zsp (zspf T nw f n) (zall T nw) 0 (-1, -1)).2) else -1)))) h') : wpC (d + 12) 344 [.inr (.inr 1036), .inl f, .inl n, .inl w] h Q := by
  have h5 := hG.2.2.2.1.2.2.1
  rw [wpC_B]; refine ⟨⟨Nat.zero_lt_succ _, Nat.le_of_ble_eq_true rfl⟩, ?_⟩; simp only [lent]
  by_cases e2 : 0 ≤ f ∧ f < T 1072 5
  · by_cases e1 : ah_m h 1036 58 ≠ 0 ∧ (1 ≤ n ∧ n ≤ 6) ∧ nw 0 + n ≤ 999
    · by_cases e3 : 0 ≤ w ∧ w ≤ 1
      · rw [if_pos ⟨e2, e1, e3⟩] at hQ
        have hL := hL e1.1
        simp (disch := omega) only [q_344_0, b_344_0, q_344_31, b_344_31, ↓w_iconst, ↓w_bipush, ↓w_lconst, ↓w_aload_n_0, ↓w_iload_n_1, ↓w_iload_n_2, ↓w_iload_n_3, ↓w_istore, ↓w_i2l, ↓w_nop, ↓w_ifCond_eq, ↓w_ifCond_ne, ↓w_invokevirtual_0, ↓w_invokevirtual_1, ↓w_invokestatic_3, ↓w_invokevirtual_3, stw_0, stw_i, stw_l, stw_r, ofK0, ofK1, ofK2, lst1, lst2, lkill, kont_none, kont_some, Int.reduceToNat, List.length_cons, List.length_nil, Nat.reduceAdd, Nat.reduceLeDiff, Nat.zero_le, true_and, and_true, if_true, if_false, ne_eq, Int.reduceEq, Int.reduceNeg, not_false_eq_true, not_true_eq_false, ↓reduceIte, Int.reduceLT, Int.reduceLE, and_self, or_true, true_or, or_false, false_or, false_and, and_false, ah_t_w, ah_m_w, ah_n_w, lst1_0, List.tail_cons, w32_i, zbd, lst2_0, mt_1036a hG.1, c_305 hG, c_328 hG hF, c_345 hG, c_246, e1, e2, e3, zall_i]
        refine t_329 hG (fun h1 hG1 hA1 hO1 hd1 hs1 => ?_)
        simp (disch := omega) only [b_344_31, ↓w_iconst, ↓w_aload_n_0, ↓w_istore, ↓w_nop, ↓w_invokevirtual_0, stw_0, stw_i, stw_l, stw_r, ofK0, ofK1, ofK2, lst1, lst2, lkill, kont_none, kont_some, Int.reduceToNat, List.length_cons, List.length_nil, Nat.reduceAdd, Nat.reduceLeDiff, Nat.zero_le, true_and, and_true, if_true, if_false, ne_eq, Int.reduceEq, Int.reduceNeg, not_false_eq_true, not_true_eq_false, ↓reduceIte, Int.reduceLT, Int.reduceLE, and_self, or_true, true_or, or_false, false_or, false_and, and_false, ah_t_w, ah_m_w, ah_n_w, lst1_0, List.tail_cons, w32_i, zbd, lst2_0, mt_1036a hG1.1, c_345 hG1]
        refine l_344 (h := h1) hH hL hF hG.2.2.2.1 hG.2.2.2.2 ((hs1 78 (by decide)).trans hX.2) e2 e1.2.1 e1.2.2 (R := zsp (zspf T nw f n) (zall T nw) 0 (-1, -1)) (fun h2 tl hG2 hA2 hO2 g78 => ?_) (zall T nw) 0 _ _ _ _ (by omega) (by omega) hG1 hA1 Off_rfl ((hs1 78 (by decide)).trans hX.2) rfl
        generalize zsp (zspf T nw f n) (zall T nw) 0 (-1, -1) = R at *
        simp (disch := omega) only [q_344_113, b_344_113, ↓w_aload_n_0, ↓w_iload_n_3, ↓w_iload_4, ↓w_goto, ↓w_ifCond_ne, ↓w_invokevirtual_0, stw_0, stw_i, stw_l, stw_r, ofK0, ofK1, ofK2, lst1, lst2, lkill, kont_none, kont_some, Int.reduceToNat, List.length_cons, List.length_nil, Nat.reduceAdd, Nat.reduceLeDiff, Nat.zero_le, true_and, and_true, if_true, if_false, ne_eq, Int.reduceEq, Int.reduceNeg, not_false_eq_true, not_true_eq_false, ↓reduceIte, Int.reduceLT, Int.reduceLE, and_self, or_true, true_or, or_false, false_or, false_and, and_false, ah_t_w, ah_m_w, ah_n_w, lst1_0, List.tail_cons, w32_i, zbd, lst2_0, mt_1036a hG2.1]
        refine t_341 hG2 hA2 hG.2.2.2.2 (fun _ _ => rfl) (fun h3 hG3 hO3 e3' => ?_)
        have hO03 : Off WT h h3 := Off_tr hO1 (Off_tr hO2 (Off_mono (fun r i w => by unfold WT WD Wy; omega) hO3))
        have hq := hQ h3 hG3 ⟨e3', by rw [hO3.2 _ _ (by omega)]; exact g78⟩ hO03
        by_cases g : w = 0
        · rw [if_pos g] at hq
          simp (disch := omega) only [b_344_113, q_344_126, b_344_126, q_344_128, b_344_128, ↓w_aload_n_0, ↓w_iload_n_3, ↓w_iload_4, ↓w_iload_5, ↓w_nop, ↓w_goto, ↓w_ifCond_ne, ↓w_ireturn0, ↓w_invokevirtual_0, stw_0, stw_i, stw_l, stw_r, ofK0, ofK1, ofK2, lst1, lst2, lkill, kont_none, kont_some, Int.reduceToNat, List.length_cons, List.length_nil, Nat.reduceAdd, Nat.reduceLeDiff, Nat.zero_le, true_and, and_true, if_true, if_false, ne_eq, Int.reduceEq, Int.reduceNeg, not_false_eq_true, not_true_eq_false, ↓reduceIte, Int.reduceLT, Int.reduceLE, and_self, or_true, true_or, or_false, false_or, false_and, and_false, ah_t_w, ah_m_w, ah_n_w, lst1_0, List.tail_cons, w32_i, zbd, lst2_0, g]
          exact hq
        · rw [if_neg g] at hq
          simp (disch := omega) only [b_344_113, q_344_126, b_344_126, q_344_128, b_344_128, ↓w_aload_n_0, ↓w_iload_n_3, ↓w_iload_4, ↓w_iload_5, ↓w_nop, ↓w_goto, ↓w_ifCond_ne, ↓w_ireturn0, ↓w_invokevirtual_0, stw_0, stw_i, stw_l, stw_r, ofK0, ofK1, ofK2, lst1, lst2, lkill, kont_none, kont_some, Int.reduceToNat, List.length_cons, List.length_nil, Nat.reduceAdd, Nat.reduceLeDiff, Nat.zero_le, true_and, and_true, if_true, if_false, ne_eq, Int.reduceEq, Int.reduceNeg, not_false_eq_true, not_true_eq_false, ↓reduceIte, Int.reduceLT, Int.reduceLE, and_self, or_true, true_or, or_false, false_or, false_and, and_false, ah_t_w, ah_m_w, ah_n_w, lst1_0, List.tail_cons, w32_i, zbd, lst2_0, g]
          exact hq
      · rw [if_neg (fun q => e3 q.2.2)] at hQ
        simp (disch := omega) only [q_344_0, b_344_0, q_344_29, b_344_29, ↓w_iconst, ↓w_bipush, ↓w_lconst, ↓w_aload_n_0, ↓w_iload_n_1, ↓w_iload_n_2, ↓w_iload_n_3, ↓w_i2l, ↓w_nop, ↓w_ifCond_eq, ↓w_ifCond_ne, ↓w_ireturn0, ↓w_invokevirtual_1, ↓w_invokestatic_3, ↓w_invokevirtual_3, stw_0, stw_i, stw_l, stw_r, ofK0, ofK1, ofK2, lst1, lst2, lkill, kont_none, kont_some, Int.reduceToNat, List.length_cons, List.length_nil, Nat.reduceAdd, Nat.reduceLeDiff, Nat.zero_le, true_and, and_true, if_true, if_false, ne_eq, Int.reduceEq, Int.reduceNeg, not_false_eq_true, not_true_eq_false, ↓reduceIte, Int.reduceLT, Int.reduceLE, and_self, or_true, true_or, or_false, false_or, false_and, and_false, ah_t_w, ah_m_w, ah_n_w, lst1_0, List.tail_cons, w32_i, zbd, lst2_0, mt_1036a hG.1, c_305 hG, c_328 hG hF, c_246, e1, e2, if_neg e3]
        exact hQ _ hG hX Off_rfl
    · rw [if_neg (fun q => e1 q.2.1)] at hQ
      simp (disch := omega) only [q_344_0, b_344_0, q_344_29, b_344_29, ↓w_iconst, ↓w_bipush, ↓w_lconst, ↓w_aload_n_0, ↓w_iload_n_1, ↓w_iload_n_2, ↓w_iload_n_3, ↓w_i2l, ↓w_nop, ↓w_ifCond_eq, ↓w_ifCond_ne, ↓w_ireturn0, ↓w_invokevirtual_1, ↓w_invokestatic_3, ↓w_invokevirtual_3, stw_0, stw_i, stw_l, stw_r, ofK0, ofK1, ofK2, lst1, lst2, lkill, kont_none, kont_some, Int.reduceToNat, List.length_cons, List.length_nil, Nat.reduceAdd, Nat.reduceLeDiff, Nat.zero_le, true_and, and_true, if_true, if_false, ne_eq, Int.reduceEq, Int.reduceNeg, not_false_eq_true, not_true_eq_false, ↓reduceIte, Int.reduceLT, Int.reduceLE, and_self, or_true, true_or, or_false, false_or, false_and, and_false, ah_t_w, ah_m_w, ah_n_w, lst1_0, List.tail_cons, w32_i, zbd, lst2_0, mt_1036a hG.1, c_305 hG, c_328 hG hF, c_246, e2, if_neg e1]
      exact hQ _ hG hX Off_rfl
  · rw [if_neg (fun q => e2 q.1)] at hQ
    simp (disch := omega) only [q_344_0, b_344_0, q_344_29, b_344_29, ↓w_iconst, ↓w_bipush, ↓w_lconst, ↓w_aload_n_0, ↓w_iload_n_1, ↓w_iload_n_2, ↓w_iload_n_3, ↓w_i2l, ↓w_nop, ↓w_ifCond_eq, ↓w_ifCond_ne, ↓w_ireturn0, ↓w_invokevirtual_1, ↓w_invokestatic_3, ↓w_invokevirtual_3, stw_0, stw_i, stw_l, stw_r, ofK0, ofK1, ofK2, lst1, lst2, lkill, kont_none, kont_some, Int.reduceToNat, List.length_cons, List.length_nil, Nat.reduceAdd, Nat.reduceLeDiff, Nat.zero_le, true_and, and_true, if_true, if_false, ne_eq, Int.reduceEq, Int.reduceNeg, not_false_eq_true, not_true_eq_false, ↓reduceIte, Int.reduceLT, Int.reduceLE, and_self, or_true, true_or, or_false, false_or, false_and, and_false, ah_t_w, ah_m_w, ah_n_w, lst1_0, List.tail_cons, w32_i, zbd, lst2_0, mt_1036a hG.1, c_305 hG, c_328 hG hF, c_246, if_neg e2]
    exact hQ _ hG hX Off_rfl
theorem c_348 (hG : MG T nw h) (hF : FV nw) (hH : HV T) (hL : ah_m h 1036 58 ≠ 0 → LV T) (hX : MX h)
    (hQ : ∀ h', MG T nw h' → MX h' → Off WT h h' → Q (.inl (some (.inr (.inl (if (0 ≤ s ∧ s ≤ 1) ∧ (1 ≤ k ∧ k ≤ 2) ∧ (ah_m h 1036 58 ≠ 0 ∧ (0 ≤ n ∧ n ≤ 20) ∧ nw 0 + n ≤ 999) then zbea T (zds T 1 (if s = 0 then k else T 1074 6) (if s = 1 then k else T 1074 7) n.toNat nw) - zbea T (zds T 1 (T 1074 6) (T 1074 7) n.toNat nw) else -1000000000000000))))) h') : wpC (d + 12) 348 [.inr (.inr 1036), .inl s, .inl k, .inl n] h Q := by
  have hT := hG.2.2.2.1
  rw [wpC_B]; refine ⟨⟨Nat.zero_lt_succ _, Nat.le_of_ble_eq_true rfl⟩, ?_⟩; simp only [lent]
  by_cases e3 : 0 ≤ s ∧ s ≤ 1
  · by_cases e2 : 1 ≤ k ∧ k ≤ 2
    · by_cases e1 : ah_m h 1036 58 ≠ 0 ∧ (0 ≤ n ∧ n ≤ 20) ∧ nw 0 + n ≤ 999
      · rw [if_pos ⟨e3, e2, e1⟩] at hQ
        have hL := hL e1.1
        simp (disch := omega) only [q_348_0, b_348_0, q_348_37, b_348_37, ↓w_iconst, ↓w_bipush, ↓w_lconst, ↓w_ldc2_w, ↓w_aload_n_0, ↓w_iload_n_1, ↓w_iload_n_2, ↓w_iload_n_3, ↓w_iload_4, ↓w_iload_5, ↓w_istore, ↓w_isub, ↓w_i2l, ↓w_putfield_0, ↓w_nop, ↓w_ifCond_eq, ↓w_ifCond_ne, ↓w_lreturn, ↓w_invokevirtual_0, ↓w_invokevirtual_1, ↓w_invokestatic_3, ↓w_invokevirtual_3, stw_0, stw_i, stw_l, stw_r, ofK0, ofK1, ofK2, lst1, lst2, lkill, kont_none, kont_some, Int.reduceToNat, List.length_cons, List.length_nil, Nat.reduceAdd, Nat.reduceLeDiff, Nat.zero_le, true_and, and_true, if_true, if_false, ne_eq, Int.reduceEq, Int.reduceNeg, not_false_eq_true, not_true_eq_false, ↓reduceIte, Int.reduceLT, Int.reduceLE, and_self, or_true, true_or, or_false, false_or, false_and, and_false, ah_t_w, ah_m_w, ah_n_w, lst1_0, List.tail_cons, w32_i, zbd, lst2_0, mt_1036a hG.1, c_298 hG hF, c_328 hG hF, c_246, e1, e2, e3]
        refine t_329 hG (fun h1 hG1 hA1 hO1 hd1 hs1 => ?_)
        simp (disch := omega) only [b_348_37, ↓w_iconst, ↓w_aload_n_0, ↓w_iload_n_1, ↓w_iload_n_2, ↓w_iload_n_3, ↓w_iload_4, ↓w_iload_5, ↓w_istore, ↓w_isub, ↓w_i2l, ↓w_putfield_0, ↓w_lreturn, ↓w_invokevirtual_0, ↓w_invokevirtual_1, stw_0, stw_i, stw_l, stw_r, ofK0, ofK1, ofK2, lst1, lst2, lkill, kont_none, kont_some, Int.reduceToNat, List.length_cons, List.length_nil, Nat.reduceAdd, Nat.reduceLeDiff, Nat.zero_le, true_and, and_true, if_true, if_false, ne_eq, Int.reduceEq, Int.reduceNeg, not_false_eq_true, not_true_eq_false, ↓reduceIte, Int.reduceLT, Int.reduceLE, and_self, or_true, true_or, or_false, false_or, false_and, and_false, ah_t_w, ah_m_w, ah_n_w, lst1_0, List.tail_cons, w32_i, zbd, lst2_0, mt_1036a hG1.1]
        have hz := @zdd_x h T hX
        refine c_330 hG1 hF hH (by rw [hd1]; exact hz.1) (by rw [hd1]; exact hz.2) ⟨hL.1.1, by have := hL.1.2; omega⟩ ⟨hL.2.1, by have := hL.2.2; omega⟩ hA1.2 ⟨e1.2.1.1, by omega⟩ (by omega) (fun h2 hG2 hF2 hO2 hr2 => ?_)
        have hA2 := Asd_off hA1 hO2 (fun r i w => WDA w)
        have hr2 := hr2 (by decide)
        have hb1 := zbea_b hT hF2
        generalize eR : zds T 1 (T 1074 6) (T 1074 7) n.toNat nw = R at *
        simp (disch := omega) only [b_348_37, ↓w_iconst, ↓w_aload_n_0, ↓w_iload_n_1, ↓w_iload_n_2, ↓w_iload_n_3, ↓w_iload_4, ↓w_iload_5, ↓w_istore, ↓w_isub, ↓w_i2l, ↓w_putfield_0, ↓w_lreturn, ↓w_invokevirtual_0, ↓w_invokevirtual_1, stw_0, stw_i, stw_l, stw_r, ofK0, ofK1, ofK2, lst1, lst2, lkill, kont_none, kont_some, Int.reduceToNat, List.length_cons, List.length_nil, Nat.reduceAdd, Nat.reduceLeDiff, Nat.zero_le, true_and, and_true, if_true, if_false, ne_eq, Int.reduceEq, Int.reduceNeg, not_false_eq_true, not_true_eq_false, ↓reduceIte, Int.reduceLT, Int.reduceLE, and_self, or_true, true_or, or_false, false_or, false_and, and_false, ah_t_w, ah_m_w, ah_n_w, lst1_0, List.tail_cons, w32_i, zbd, lst2_0, mt_1036a hG2.1, c_298 hG2 hF2]
        refine t_342 hG2 hA2 hG.2.2.2.2 hr2 (fun h3 hG3 hA3 hO3 => ?_)
        simp (disch := omega) only [b_348_37, ↓w_iconst, ↓w_aload_n_0, ↓w_iload_n_1, ↓w_iload_n_2, ↓w_iload_n_3, ↓w_iload_4, ↓w_iload_5, ↓w_istore, ↓w_isub, ↓w_i2l, ↓w_putfield_0, ↓w_lreturn, ↓w_invokevirtual_0, ↓w_invokevirtual_1, stw_0, stw_i, stw_l, stw_r, ofK0, ofK1, ofK2, lst1, lst2, lkill, kont_none, kont_some, Int.reduceToNat, List.length_cons, List.length_nil, Nat.reduceAdd, Nat.reduceLeDiff, Nat.zero_le, true_and, and_true, if_true, if_false, ne_eq, Int.reduceEq, Int.reduceNeg, not_false_eq_true, not_true_eq_false, ↓reduceIte, Int.reduceLT, Int.reduceLE, and_self, or_true, true_or, or_false, false_or, false_and, and_false, ah_t_w, ah_m_w, ah_n_w, lst1_0, List.tail_cons, w32_i, zbd, lst2_0, mt_1036a hG3.1]
        have hG4 : MG T nw (ah_w (ah_w h3 1036 78 s) 1036 79 k) := MG_f (MG_f hG3 (by omega)) (by omega)
        have hO4 : Off (fun r i => r = 1036 ∧ (i = 78 ∨ i = 79)) h3 (ah_w (ah_w h3 1036 78 s) 1036 79 k) := Off_w (Off_w Off_rfl (by omega)) (by omega)
        have g78 : ah_m (ah_w (ah_w h3 1036 78 s) 1036 79 k) 1036 78 = s := rfl
        have g79 : ah_m (ah_w (ah_w h3 1036 78 s) 1036 79 k) 1036 79 = k := rfl
        generalize ah_w (ah_w h3 1036 78 s) 1036 79 k = h4 at hG4 hO4 g78 g79
        have hA4 := Asd_off hA3 hO4 (fun r i w => by omega)
        have z0 : zdd T h4 0 = if s = 0 then k else T 1074 6 := by
          unfold zdd; rw [g78, g79]
          by_cases q : s = 0
          · rw [if_pos q.symm, if_pos q]
          · rw [if_neg (fun r => q r.symm), if_neg q]; rfl
        have z1 : zdd T h4 1 = if s = 1 then k else T 1074 7 := by
          unfold zdd; rw [g78, g79]
          by_cases q : s = 1
          · rw [if_pos q.symm, if_pos q]
          · rw [if_neg (fun r => q r.symm), if_neg q]; rfl
        refine c_330 hG4 hF hH z0 z1 ?_ ?_ hA4.2 ⟨e1.2.1.1, by omega⟩ (by omega) (fun h5 hG5 hF5 hO5 hr5 => ?_)
        · have := hL.1; split <;> omega
        · have := hL.2; split <;> omega
        have hA5 := Asd_off hA4 hO5 (fun r i w => WDA w)
        have hr5 := hr5 (by decide)
        have hb2 := zbea_b hT hF5
        generalize eR2 : zds T 1 (if s = 0 then k else T 1074 6) (if s = 1 then k else T 1074 7) n.toNat nw = R2 at *
        have hG6 : MG T R2 (ah_w h5 1036 78 (-1)) := MG_f hG5 (by omega)
        have hA6 : Asd nw (ah_w h5 1036 78 (-1)) := Asd_off (W := fun r i => r = 1036 ∧ i = 78) hA5 (Off_w Off_rfl (by omega)) (fun r i w => by omega)
        simp (disch := omega) only [b_348_37, ↓w_iconst, ↓w_aload_n_0, ↓w_iload_n_1, ↓w_iload_n_2, ↓w_iload_n_3, ↓w_iload_4, ↓w_iload_5, ↓w_istore, ↓w_isub, ↓w_i2l, ↓w_putfield_0, ↓w_lreturn, ↓w_invokevirtual_0, ↓w_invokevirtual_1, stw_0, stw_i, stw_l, stw_r, ofK0, ofK1, ofK2, lst1, lst2, lkill, kont_none, kont_some, Int.reduceToNat, List.length_cons, List.length_nil, Nat.reduceAdd, Nat.reduceLeDiff, Nat.zero_le, true_and, and_true, if_true, if_false, ne_eq, Int.reduceEq, Int.reduceNeg, not_false_eq_true, not_true_eq_false, ↓reduceIte, Int.reduceLT, Int.reduceLE, and_self, or_true, true_or, or_false, false_or, false_and, and_false, ah_t_w, ah_m_w, ah_n_w, lst1_0, List.tail_cons, w32_i, zbd, lst2_0, mt_1036a hG5.1, c_298 hG6 hF5]
        refine t_341 hG6 hA6 hG.2.2.2.2 hr5 (fun h7 hG7 hO7 e7 => ?_)
        simp (disch := omega) only [b_348_37, ↓w_iconst, ↓w_aload_n_0, ↓w_iload_n_1, ↓w_iload_n_2, ↓w_iload_n_3, ↓w_iload_4, ↓w_iload_5, ↓w_istore, ↓w_isub, ↓w_i2l, ↓w_putfield_0, ↓w_lreturn, ↓w_invokevirtual_0, ↓w_invokevirtual_1, stw_0, stw_i, stw_l, stw_r, ofK0, ofK1, ofK2, lst1, lst2, lkill, kont_none, kont_some, Int.reduceToNat, List.length_cons, List.length_nil, Nat.reduceAdd, Nat.reduceLeDiff, Nat.zero_le, true_and, and_true, if_true, if_false, ne_eq, Int.reduceEq, Int.reduceNeg, not_false_eq_true, not_true_eq_false, ↓reduceIte, Int.reduceLT, Int.reduceLE, and_self, or_true, true_or, or_false, false_or, false_and, and_false, ah_t_w, ah_m_w, ah_n_w, lst1_0, List.tail_cons, w32_i, zbd, lst2_0]
        refine hQ h7 hG7 ⟨e7, by rw [hO7.2 _ _ (by omega)]; rfl⟩ ?_
        refine Off_tr hO1 (Off_tr (Off_mono (fun r i w => Or.inl w) hO2) (Off_tr (Off_mono (fun r i w => Or.inl (Or.inr (Or.inl w))) hO3) (Off_tr (Off_mono (fun r i w => by unfold WT; omega) hO4) (Off_tr (Off_mono (fun r i w => Or.inl w) hO5) (Off_tr (Off_w Off_rfl (by unfold WT; omega)) (Off_mono (fun r i w => by unfold WT WD Wy; omega) hO7))))))
      · rw [if_neg (fun q => e1 q.2.2)] at hQ
        simp (disch := omega) only [q_348_0, b_348_0, q_348_33, b_348_33, ↓w_iconst, ↓w_bipush, ↓w_lconst, ↓w_ldc2_w, ↓w_aload_n_0, ↓w_iload_n_1, ↓w_iload_n_2, ↓w_iload_n_3, ↓w_i2l, ↓w_nop, ↓w_ifCond_eq, ↓w_ifCond_ne, ↓w_lreturn, ↓w_invokestatic_3, ↓w_invokevirtual_3, stw_0, stw_i, stw_l, stw_r, ofK0, ofK1, ofK2, lst1, lst2, lkill, kont_none, kont_some, Int.reduceToNat, List.length_cons, List.length_nil, Nat.reduceAdd, Nat.reduceLeDiff, Nat.zero_le, true_and, and_true, if_true, if_false, ne_eq, Int.reduceEq, Int.reduceNeg, not_false_eq_true, not_true_eq_false, ↓reduceIte, Int.reduceLT, Int.reduceLE, and_self, or_true, true_or, or_false, false_or, false_and, and_false, ah_t_w, ah_m_w, ah_n_w, lst1_0, List.tail_cons, w32_i, zbd, lst2_0, mt_1036a hG.1, c_328 hG hF, c_246, e2, e3, if_neg e1]
        exact hQ _ hG hX Off_rfl
    · rw [if_neg (fun q => e2 q.2.1)] at hQ
      simp (disch := omega) only [q_348_0, b_348_0, q_348_33, b_348_33, ↓w_iconst, ↓w_bipush, ↓w_lconst, ↓w_ldc2_w, ↓w_aload_n_0, ↓w_iload_n_1, ↓w_iload_n_2, ↓w_iload_n_3, ↓w_i2l, ↓w_nop, ↓w_ifCond_eq, ↓w_ifCond_ne, ↓w_lreturn, ↓w_invokestatic_3, ↓w_invokevirtual_3, stw_0, stw_i, stw_l, stw_r, ofK0, ofK1, ofK2, lst1, lst2, lkill, kont_none, kont_some, Int.reduceToNat, List.length_cons, List.length_nil, Nat.reduceAdd, Nat.reduceLeDiff, Nat.zero_le, true_and, and_true, if_true, if_false, ne_eq, Int.reduceEq, Int.reduceNeg, not_false_eq_true, not_true_eq_false, ↓reduceIte, Int.reduceLT, Int.reduceLE, and_self, or_true, true_or, or_false, false_or, false_and, and_false, ah_t_w, ah_m_w, ah_n_w, lst1_0, List.tail_cons, w32_i, zbd, lst2_0, mt_1036a hG.1, c_328 hG hF, c_246, e3, if_neg e2]
      exact hQ _ hG hX Off_rfl
  · rw [if_neg (fun q => e3 q.1)] at hQ
    simp (disch := omega) only [q_348_0, b_348_0, q_348_33, b_348_33, ↓w_iconst, ↓w_bipush, ↓w_lconst, ↓w_ldc2_w, ↓w_aload_n_0, ↓w_iload_n_1, ↓w_iload_n_2, ↓w_iload_n_3, ↓w_i2l, ↓w_nop, ↓w_ifCond_eq, ↓w_ifCond_ne, ↓w_lreturn, ↓w_invokestatic_3, ↓w_invokevirtual_3, stw_0, stw_i, stw_l, stw_r, ofK0, ofK1, ofK2, lst1, lst2, lkill, kont_none, kont_some, Int.reduceToNat, List.length_cons, List.length_nil, Nat.reduceAdd, Nat.reduceLeDiff, Nat.zero_le, true_and, and_true, if_true, if_false, ne_eq, Int.reduceEq, Int.reduceNeg, not_false_eq_true, not_true_eq_false, ↓reduceIte, Int.reduceLT, Int.reduceLE, and_self, or_true, true_or, or_false, false_or, false_and, and_false, ah_t_w, ah_m_w, ah_n_w, lst1_0, List.tail_cons, w32_i, zbd, lst2_0, mt_1036a hG.1, c_328 hG hF, c_246, if_neg e3]
    exact hQ _ hG hX Off_rfl
end THK2
