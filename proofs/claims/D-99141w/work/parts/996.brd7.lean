/-! ===== M: a board is read ===== -/
def zini (S : Int → Int → Int) : Int → Int → Int := zw (zw (zw (zw (zw (zw S 1072 0 0) 1072 1 0) 1072 2 0) 1079 0 0) 1079 1 0) 1080 0 (-1)
def zbls (t : Int → Int) (n : Int) : Nat → (Int → Int → Int) → Int → Int → (Int × Int) ⊕ (Int × (Int → Int → Int))
  | 0, _, _, _ => .inl (0, 0)
  | j + 1, S, c, k => if zB t n (zsk t n k) = -1 then .inr (c, S) else zth (zstm t n S c (zsk t n k)) fun r => zbls t n j r.2 (c + 1) r.1
def zbrd (t : Int → Int) (n : Int) (S : Int → Int → Int) : (Int × Int) ⊕ (Int × (Int → Int → Int)) := zth (zbt t n (zini S) 0) fun r => zbls t n 60 r.2 1 r.1
def WBd (r i : Int) : Prop := WB2 r i ∨ (r = 1036 ∧ 1 ≤ i ∧ i ≤ 8) ∨ (r = 1038 ∧ i = 1)
section BRD7
variable {d : Nat} {h h0 : AH} {Q : QQ} {x y z m k s l w a b c v n p r o lo hi bg : Int} {S : Int → Int → Int} {t : Int → Int} {cs : List Int}
set_option maxHeartbeats 4000000
theorem SP_t {k' : Int} {S' : Int → Int → Int} (hR : SRg S) (e : zbt t n (zini S) k = .inr (k', S')) : SP S' ∧ zcdd S' = 0 := by
  unfold zbt at e
  obtain ⟨k0, _, e⟩ := zth_r e
  obtain ⟨a0, e0, e⟩ := zth_r e
  obtain ⟨k1, _, e⟩ := zth_r e
  obtain ⟨a1, e1, e⟩ := zth_r e
  obtain ⟨k2, _, e⟩ := zth_r e
  obtain ⟨a2, e2, e⟩ := zth_r e
  obtain ⟨k3, _, e⟩ := zth_r e
  obtain ⟨a3, e3, e⟩ := zth_r e
  obtain ⟨k4, _, e⟩ := zth_r e
  simp only [Sum.inr.injEq, Prod.mk.injEq] at e
  have b0 := znum_v e0; have b1 := znum_v e1; have b2 := znum_v e2; have b3 := znum_v e3
  rw [← e.2]
  generalize hS1 : zw (zw (zw (zw (zini S) 1074 0 a0.2) 1074 1 a1.2) 1074 2 a2.2) 1074 3 a3.2 = S1
  have f0 : S1 1074 0 = a0.2 := by rw [← hS1]; rfl
  have f1 : S1 1074 1 = a1.2 := by rw [← hS1]; rfl
  have f2 : S1 1074 2 = a2.2 := by rw [← hS1]; rfl
  have f3 : S1 1074 3 = a3.2 := by rw [← hS1]; rfl
  have c0 : S1 1072 0 = 0 := by rw [← hS1]; rfl
  have c1 : S1 1072 1 = 0 := by rw [← hS1]; rfl
  have c2 : S1 1072 2 = 0 := by rw [← hS1]; rfl
  have s0 : S1 1079 0 = 0 := by rw [← hS1]; rfl
  have s1 : S1 1079 1 = 0 := by rw [← hS1]; rfl
  have u0 : S1 1080 0 = -1 := by rw [← hS1]; rfl
  have hR1 : SRg S1 := SRg_c hR (fun r i p q u => by
    rw [← hS1]; unfold zini; repeat rw [zw_o (by omega)])
  refine ⟨⟨?_, ?_, ?_, hR1, fun m p q => ?_, fun m p q => ?_, fun m q p u => ?_, ?_, Or.inl u0⟩, ?_⟩
  · unfold SC; omega
  · omega
  · omega
  · omega
  · omega
  · omega
  · omega
  · unfold zcdd; rw [if_pos u0]
theorem WBat {h' h'' : AH} {W : Int → Int → Prop} (hO : Off W h' h'') (hW : ∀ r i, W r i → Wlx r i) (hB : LB t n k S c h') : ah_m h'' 1036 57 = c ∧ ah_m h'' 1036 56 = zcdd S :=
  ⟨by rw [hO.2 _ _ (fun w => by have := hW _ _ w; unfold Wlx at this; omega)]; exact hB.2.1, by rw [hO.2 _ _ (fun w => by have := hW _ _ w; unfold Wlx at this; omega)]; exact hB.2.2⟩
theorem zstm_c {r : Int × (Int → Int → Int)} (e : zstm t n S c k = .inr r) : c ≠ 60 := by
  intro g; unfold zstm at e; rw [if_pos g] at e; cases e
theorem zstm_P {k' : Int} {S' : Int → Int → Int} (hS : SP S) (h0 : 0 ≤ k) (h1 : k ≤ n) (hn : n ≤ 1600) (e : zstm t n S c k = .inr (k', S')) : SP S' := by
  unfold zstm at e
  split at e
  · cases e
  · obtain ⟨r, e1, e⟩ := zth_r e
    obtain ⟨q, _, e⟩ := zth_r e
    simp only [Sum.inr.injEq, Prod.mk.injEq] at e
    rw [← e.2]; exact zstb_P (k' := r.1) hS h0 h1 hn e1
theorem l_236_88 {E : (Int × Int) ⊕ (Int × (Int → Int → Int))}
    (hq0 : ∀ h' kk pp tl, E = .inl (kk, pp) → BX kk pp h' → SRg (stt h') → Off WB2 h h' → wpB (d + 10) 236 110 (some (.inr (.inr 1036)) :: tl) [] h' Q)
    (hq1 : ∀ h' k' c' S' tl, E = .inr (c', S') → LB t n k' S' c' h' → SP S' → Off WB2 h h' → wpB (d + 10) 236 110 (some (.inr (.inr 1036)) :: tl) [] h' Q) :
    ∀ (j : Nat) (S : Int → Int → Int) (c k : Int) tl h', 1 ≤ c → c ≤ 60 → c + j = 61 → LB t n k S c h' → SP S → zbls t n j S c k = E → Off WB2 h h' → wpB (d + 10) 236 88 (some (.inr (.inr 1036)) :: tl) [] h' Q := by
  intro j
  induction j with
  | zero => intro S c k tl h' c0 c1 cj; omega
  | succ j ih =>
    intro S c k tl h' c0 c1 cj hB hP e hO
    have hM := hB.1.1.1
    have h5 := hB.1.1.2.2.2.2.1
    rw [q_236_88]
    simp (disch := omega) only [b_236_88, ↓w_iconst, ↓w_aload_n_0, ↓w_getfield, ↓w_goto, ↓w_if_icmp_eq, ↓w_ifCond_ne, ↓w_invokevirtual_0, stw_0, stw_i, stw_l, stw_r, ofK0, ofK1, ofK2, lst1, lst2, lkill, kont_none, kont_some, Int.reduceToNat, List.length_cons, List.length_nil, Nat.reduceAdd, Nat.reduceLeDiff, Nat.zero_le, true_and, and_true, if_true, if_false, ne_eq, Int.reduceEq, Int.reduceNeg, not_false_eq_true, not_true_eq_false, ↓reduceIte, Int.reduceLT, Int.reduceLE, and_self, or_true, true_or, or_false, false_or, false_and, and_false, ah_t_w, ah_m_w, ah_n_w, lst1_0, List.tail_cons, w32_i, zbd, lst2_0, mt_1036a hM, h5]
    refine c_241 hB.1.1 (fun h1 hX1 hO1 => ?_)
    have hL1 := LS_lx hB.1 hX1 hO1 (fun r i w => Wat_lx w)
    have s1 := WBat hO1 (fun r i w => Wat_lx w) hB
    have hB1 : LB t n (zsk t n k) S c h1 := ⟨hL1, s1⟩
    have hOx : Off WB2 h h1 := Off_tr hO (Off_mono (fun r i w => Or.inl (Wat_R w)) hO1)
    have hk := hB.1.1.2.2.2.2.2.1
    have hsk := @zsk_le k n t hk.2.1
    simp only [zbls] at e
    by_cases g : zB t n (zsk t n k) = -1
    · rw [if_pos g] at e
      simp (disch := omega) only [b_236_88, ↓w_iconst, ↓w_aload_n_0, ↓w_getfield, ↓w_goto, ↓w_if_icmp_eq, ↓w_ifCond_ne, ↓w_invokevirtual_0, stw_0, stw_i, stw_l, stw_r, ofK0, ofK1, ofK2, lst1, lst2, lkill, kont_none, kont_some, Int.reduceToNat, List.length_cons, List.length_nil, Nat.reduceAdd, Nat.reduceLeDiff, Nat.zero_le, true_and, and_true, if_true, if_false, ne_eq, Int.reduceEq, Int.reduceNeg, not_false_eq_true, not_true_eq_false, ↓reduceIte, Int.reduceLT, Int.reduceLE, and_self, or_true, true_or, or_false, false_or, false_and, and_false, ah_t_w, ah_m_w, ah_n_w, lst1_0, List.tail_cons, w32_i, zbd, lst2_0, g]
      exact hq1 h1 _ c S _ e.symm hB1 hP hOx
    · rw [if_neg g] at e
      simp (disch := omega) only [b_236_88, ↓w_iconst, ↓w_aload_n_0, ↓w_getfield, ↓w_goto, ↓w_if_icmp_eq, ↓w_ifCond_ne, ↓w_invokevirtual_0, stw_0, stw_i, stw_l, stw_r, ofK0, ofK1, ofK2, lst1, lst2, lkill, kont_none, kont_some, Int.reduceToNat, List.length_cons, List.length_nil, Nat.reduceAdd, Nat.reduceLeDiff, Nat.zero_le, true_and, and_true, if_true, if_false, ne_eq, Int.reduceEq, Int.reduceNeg, not_false_eq_true, not_true_eq_false, ↓reduceIte, Int.reduceLT, Int.reduceLE, and_self, or_true, true_or, or_false, false_or, false_and, and_false, ah_t_w, ah_m_w, ah_n_w, lst1_0, List.tail_cons, w32_i, zbd, lst2_0, mt_1036a hX1.1, g]
      refine c_249 (d := d + 1) hB1 (zsk_zsk hk.1 hk.2.1) hP ⟨c0, c1⟩ (fun h2 kk pp e2 hX2 hR2 hO2 => ?_) (fun h2 k2 S2 e2 hB2 hO2 => ?_)
      · rw [e2] at e
        have e5 := hX2.2.1; have hk5 := hX2.2.2.2
        simp (disch := omega) only [b_236_88, q_236_88, b_236_88, ↓w_iconst, ↓w_aload_n_0, ↓w_getfield, ↓w_goto, ↓w_if_icmp_eq, ↓w_ifCond_ne, ↓w_invokevirtual_0, stw_0, stw_i, stw_l, stw_r, ofK0, ofK1, ofK2, lst1, lst2, lkill, kont_none, kont_some, Int.reduceToNat, List.length_cons, List.length_nil, Nat.reduceAdd, Nat.reduceLeDiff, Nat.zero_le, true_and, and_true, if_true, if_false, ne_eq, Int.reduceEq, Int.reduceNeg, not_false_eq_true, not_true_eq_false, ↓reduceIte, Int.reduceLT, Int.reduceLE, and_self, or_true, true_or, or_false, false_or, false_and, and_false, ah_t_w, ah_m_w, ah_n_w, lst1_0, List.tail_cons, w32_i, zbd, lst2_0, mt_1036a hX2.1, e5, hk5]
        exact hq0 h2 kk pp _ e.symm hX2 hR2 (Off_tr hOx hO2)
      · rw [e2] at e
        have c60 := zstm_c e2
        simp (disch := omega) only [b_236_88, ↓w_iconst, ↓w_aload_n_0, ↓w_getfield, ↓w_goto, ↓w_if_icmp_eq, ↓w_ifCond_ne, ↓w_invokevirtual_0, stw_0, stw_i, stw_l, stw_r, ofK0, ofK1, ofK2, lst1, lst2, lkill, kont_none, kont_some, Int.reduceToNat, List.length_cons, List.length_nil, Nat.reduceAdd, Nat.reduceLeDiff, Nat.zero_le, true_and, and_true, if_true, if_false, ne_eq, Int.reduceEq, Int.reduceNeg, not_false_eq_true, not_true_eq_false, ↓reduceIte, Int.reduceLT, Int.reduceLE, and_self, or_true, true_or, or_false, false_or, false_and, and_false, ah_t_w, ah_m_w, ah_n_w, lst1_0, List.tail_cons, w32_i, zbd, lst2_0]
        exact ih S2 (c + 1) k2 _ h2 (by omega) (by omega) (by omega) hB2 (zstm_P hP (by omega) hsk.2 (by omega) e2) e (Off_tr hOx hO2)
theorem c_236 (hM : MI h) (et : ah_m h 1037 = t) (en : ah_m h 1036 1 = n) (hv : TPV t n) (hR : SRg (stt h))
    (hQ0 : ∀ h' a b, zbrd t n (stt h) = .inl (a, b) → MI h' → SRg (stt h') → Off WBd h h' → ah_m h' 1036 1 = 0 → ah_m h' 1036 7 = a → ah_m h' 1036 8 = b → ah_m h' 1038 1 = w32 (ah_m h 1038 1 + 1) → Q (.inl (some (.inl (-1)))) h')
    (hQ1 : ∀ h' c S', zbrd t n (stt h) = .inr (c, S') → SP S' → ST (zstd S') h' → ah_m h' 1083 = znw0 S' (ah_m h 1083) → ah_m h' 1036 58 = 1 → ah_m h' 1036 84 = 0 → ah_m h' 1036 80 = 0 → Off (fun r i => (WBd r i ∧ r ≠ 1038) ∨ WSt r i) h h' → ah_m h' 1036 1 = 0 → ah_m h' 1036 7 = 0 → ah_m h' 1036 8 = -1 → Q (.inl (some (.inl c))) h') : wpC (d + 11) 236 [.inr (.inr 1036)] h Q := by
  have hv1 := hv.1
  unfold zbrd at hQ0 hQ1
  rw [wpC_B]; refine ⟨⟨Nat.zero_lt_succ _, Nat.le_of_ble_eq_true rfl⟩, ?_⟩; simp only [lent]
  simp (disch := omega) only [q_236_0, b_236_0, ↓w_iconst, ↓w_aload_n_0, ↓w_istore_n_1, ↓w_getfield, ↓w_putfield_0, ↓w_nop, stw_0, stw_i, stw_l, stw_r, ofK0, ofK1, ofK2, lst1, lst2, lkill, kont_none, kont_some, Int.reduceToNat, List.length_cons, List.length_nil, Nat.reduceAdd, Nat.reduceLeDiff, Nat.zero_le, true_and, and_true, if_true, if_false, ne_eq, Int.reduceEq, Int.reduceNeg, not_false_eq_true, not_true_eq_false, ↓reduceIte, Int.reduceLT, Int.reduceLE, and_self, or_true, true_or, or_false, false_or, false_and, and_false, ah_t_w, ah_m_w, ah_n_w, lst1_0, List.tail_cons, w32_i, zbd, lst2_0, mt_1036a hM, en]
  generalize eh1 : ah_w (ah_w (ah_w (ah_w (ah_w (ah_w (ah_w h 1036 3 n) 1036 1 0) 1036 2 0) 1036 4 (-1)) 1036 5 0) 1036 6 (-1)) 1036 56 0 = h1
  have hM1 : MI h1 := by rw [← eh1]; exact MI_w (MI_w (MI_w (MI_w (MI_w (MI_w (MI_w hM (by unfold fre; omega)) (by unfold fre; omega)) (by unfold fre; omega)) (by unfold fre; omega)) (by unfold fre; omega)) (by unfold fre; omega)) (by unfold fre; omega)
  have hO1 : Off WBd h h1 := by rw [← eh1]; refine Off_w (Off_w (Off_w (Off_w (Off_w (Off_w (Off_w Off_rfl ?_) ?_) ?_) ?_) ?_) ?_) ?_ <;> (unfold WBd WB2; omega)
  have hS1 : stt h1 = stt h := by rw [← eh1]; repeat rw [stt_o (by omega)]
  have a1 : ah_m h1 1036 1 = 0 := by rw [← eh1]; rfl
  have a2 : ah_m h1 1036 2 = 0 := by rw [← eh1]; rfl
  have a3 : ah_m h1 1036 3 = n := by rw [← eh1]; rfl
  have a4 : ah_m h1 1036 4 = -1 := by rw [← eh1]; rfl
  have a5 : ah_m h1 1036 5 = 0 := by rw [← eh1]; rfl
  have a6 : ah_m h1 1036 6 = -1 := by rw [← eh1]; rfl
  have a56 : ah_m h1 1036 56 = 0 := by rw [← eh1]; rfl
  have st : ∀ (i : Int) h', MI h' → 0 ≤ i → i < 3 → wpB (d + 10) 236 40 [some (.inr (.inr 1036)), some (.inl (i + 1))] [] (ah_w h' 1072 i 0) Q → wpB (d + 10) 236 40 [some (.inr (.inr 1036)), some (.inl i)] [] h' Q := by
    intro i h' hM' i0 i1 hw
    rw [q_236_40]
    simp (disch := omega) only [b_236_40, ↓w_iconst, ↓w_aload_n_0, ↓w_iload_n_1, ↓w_iinc_1, ↓w_getfield, ↓w_iastore, ↓w_goto, ↓w_if_icmp_ge, stw_0, stw_i, stw_l, stw_r, ofK0, ofK1, ofK2, lst1, lst2, lkill, kont_none, kont_some, Int.reduceToNat, List.length_cons, List.length_nil, Nat.reduceAdd, Nat.reduceLeDiff, Nat.zero_le, true_and, and_true, if_true, if_false, ne_eq, Int.reduceEq, Int.reduceNeg, not_false_eq_true, not_true_eq_false, ↓reduceIte, Int.reduceLT, Int.reduceLE, and_self, or_true, true_or, or_false, false_or, false_and, and_false, ah_t_w, ah_m_w, ah_n_w, lst1_0, List.tail_cons, w32_i, zbd, lst2_0, mt_1036a hM', mt_1072a hM', mt_1072b hM', mf_45 hM', i1]
    exact hw
  have k1 : ∀ {h' : AH} {i v : Int}, MI h' → MI (ah_w h' 1072 i v) := fun x => MI_w x (by unfold fre; omega)
  refine st 0 h1 hM1 (by decide) (by decide) (st 1 _ (k1 hM1) (by decide) (by decide) (st 2 _ (k1 (k1 hM1)) (by decide) (by decide) ?_))
  generalize eh2 : ah_w (ah_w (ah_w h1 1072 0 0) 1072 1 0) 1072 2 0 = h2
  have hM2 : MI h2 := by rw [← eh2]; exact k1 (k1 (k1 hM1))
  have e3 : ¬ ((2 : Int) + 1 < 3) := by decide
  simp (disch := omega) only [q_236_40, b_236_40, q_236_58, b_236_58, ↓w_iconst, ↓w_aload_n_0, ↓w_iload_n_1, ↓w_iinc_1, ↓w_getfield, ↓w_putfield_0, ↓w_iastore, ↓w_nop, ↓w_goto, ↓w_if_icmp_ge, ↓w_invokevirtual_0, stw_0, stw_i, stw_l, stw_r, ofK0, ofK1, ofK2, lst1, lst2, lkill, kont_none, kont_some, Int.reduceToNat, List.length_cons, List.length_nil, Nat.reduceAdd, Nat.reduceLeDiff, Nat.zero_le, true_and, and_true, if_true, if_false, ne_eq, Int.reduceEq, Int.reduceNeg, not_false_eq_true, not_true_eq_false, ↓reduceIte, Int.reduceLT, Int.reduceLE, and_self, or_true, true_or, or_false, false_or, false_and, and_false, ah_t_w, ah_m_w, ah_n_w, lst1_0, List.tail_cons, w32_i, zbd, lst2_0, mt_1036a hM2, mt_1072a hM2, mt_1072b hM2, mf_45 hM2, mt_1079a hM2, mt_1079b hM2, mf_52 hM2, mt_1080a hM2, mt_1080b hM2, mf_53 hM2, e3]
  generalize eh3 : ah_w (ah_w (ah_w h2 1079 0 0) 1079 1 0) 1080 0 (-1) = h3
  have hO3 : Off WB2 h1 h3 := by rw [← eh3, ← eh2]; refine Off_w (Off_w (Off_w (Off_w (Off_w (Off_w Off_rfl ?_) ?_) ?_) ?_) ?_) ?_ <;> (unfold WB2 WR LO; omega)
  have hS3 : stt h3 = zini (stt h) := by
    rw [← eh3, ← eh2, ← hS1]; unfold zini
    rw [stt_w (by decide), stt_w (by decide), stt_w (by decide), stt_w (by decide), stt_w (by decide), stt_w (by decide)]
  have hM3 : MI h3 := MI_off hM1 hO3 (fun r i w => by unfold WB2 WR Wlx LO WZ WQ at w; unfold fre; omega)
  have a1 : ah_m h3 1036 1 = 0 := by rw [hO3.2 _ _ (by unfold WB2 WR Wlx LO WZ WQ; omega)]; exact a1
  have g3 : ∀ i, ah_m h3 1036 i = ah_m h1 1036 i := fun i => by
    rw [← eh3, ← eh2, ah_m_w, if_neg (by omega), ah_m_w, if_neg (by omega), ah_m_w, if_neg (by omega), ah_m_w, if_neg (by omega), ah_m_w, if_neg (by omega), ah_m_w, if_neg (by omega)]
  have hX3 : LX t n 0 h3 := by
    refine ⟨hM3, ?_, by rw [g3]; exact a3, by rw [g3]; exact a2, by rw [g3]; exact a5, ⟨by omega, by omega, by omega, by rw [g3]; exact a6⟩, hv, ?_⟩
    · rw [Off_r hO3 (fun i w => by unfold WB2 WR Wlx LO WZ WQ at w; omega), Off_r hO1 (fun i w => by unfold WBd WB2 WR Wlx LO WZ WQ at w; omega)]; exact et
    rw [g3, a4]
    refine ⟨by decide, fun q => by omega, fun q => ?_⟩
    have : zB t n (0 - 1) = -1 := if_neg (by omega)
    unfold zpd at q; rw [this] at q; cases q
  have c1 : ah_m h3 1083 = ah_m h 1083 := by
    rw [Off_r hO3 (fun i w => by unfold WB2 WR Wlx LO WZ WQ at w; omega), Off_r hO1 (fun i w => by unfold WBd WB2 WR Wlx LO WZ WQ at w; omega)]
  have hO13 : Off (fun r i => WBd r i ∧ r ≠ 1038) h h3 := by
    have q1 : Off (fun r i => WBd r i ∧ r ≠ 1038) h h1 := by rw [← eh1]; refine Off_w (Off_w (Off_w (Off_w (Off_w (Off_w (Off_w Off_rfl ?_) ?_) ?_) ?_) ?_) ?_) ?_ <;> (unfold WBd WB2; omega)
    exact Off_tr q1 (Off_mono (fun r i w => ⟨Or.inl w, by unfold WB2 WR Wlx LO WZ WQ at w; omega⟩) hO3)
  have n1 : ∀ h', Off WB2 h3 h' → ah_m h' 1036 1 = 0 := fun h' hO => by rw [hO.2 _ _ (by unfold WB2 WR Wlx LO WZ WQ; omega)]; exact a1
  have n8 : ∀ h', Off WB2 h3 h' → Off (fun r i => WBd r i ∧ r ≠ 1038) h h' := fun h' hO => Off_tr hO13 (Off_mono (fun r i w => ⟨Or.inl w, by unfold WB2 WR Wlx LO WZ WQ at w; omega⟩) hO)
  have bad110 : ∀ h' kk pp tl, (zth (zbt t n (zini (stt h)) 0) fun r => zbls t n 60 r.2 1 r.1) = .inl (kk, pp) → BX kk pp h' → SRg (stt h') → Off WB2 h3 h' → wpB (d + 10) 236 110 (some (.inr (.inr 1036)) :: tl) [] h' Q := by
    intro h' kk pp tl e hB hR' hO
    have e5 := hB.2.1; have e6 := hB.2.2.1; have hk := hB.2.2.2
    have b1 := n1 h' hO
    have b38 : ah_m h' 1038 1 = ah_m h 1038 1 := (n8 h' hO).2 _ _ (fun w => w.2 rfl)
    simp (disch := omega) only [q_236_110, b_236_110, ↓w_iconst, ↓w_aload_n_0, ↓w_dup2, ↓w_iadd, ↓w_getfield, ↓w_putfield_0, ↓w_iaload, ↓w_iastore, ↓w_ifCond_eq, ↓w_ireturn0, stw_0, stw_i, stw_l, stw_r, ofK0, ofK1, ofK2, lst1, lst2, lkill, kont_none, kont_some, Int.reduceToNat, List.length_cons, List.length_nil, Nat.reduceAdd, Nat.reduceLeDiff, Nat.zero_le, true_and, and_true, if_true, if_false, ne_eq, Int.reduceEq, Int.reduceNeg, not_false_eq_true, not_true_eq_false, ↓reduceIte, Int.reduceLT, Int.reduceLE, and_self, or_true, true_or, or_false, false_or, false_and, and_false, ah_t_w, ah_m_w, ah_n_w, lst1_0, List.tail_cons, w32_i, zbd, lst2_0, mt_1036a hB.1, mt_1038a hB.1, mt_1038b hB.1, mf_9 hB.1, e5, e6, hk, b38]
    refine hQ0 _ kk pp e (MI_w (MI_w (MI_w hB.1 (by unfold fre; omega)) (by unfold fre; omega)) (by unfold fre; omega)) (by rw [stt_o (by decide), stt_o (by decide), stt_o (by decide)]; exact hR') (Off_w (Off_w (Off_w (Off_mono (fun r i w => w.1) (n8 h' hO)) ?_) ?_) ?_) ?_ ?_ ?_ ?_
    · unfold WBd; omega
    · unfold WBd; omega
    · unfold WBd; omega
    · rw [ah_m_w, if_neg (by omega), ah_m_w, if_neg (by omega), ah_m_w, if_neg (by omega)]; exact b1
    · rw [ah_m_w, if_neg (by omega), ah_m_w, if_neg (by omega), ah_m_w, if_pos ⟨rfl, rfl⟩]
    · rw [ah_m_w, if_neg (by omega), ah_m_w, if_pos ⟨rfl, rfl⟩]
    · rw [ah_m_w, if_pos ⟨rfl, rfl⟩]
  refine c_237 (d := d + 5) ⟨hX3, hS3⟩ (fun h4 kk pp e hB hO => ?_) (fun h4 k4 S4 e hL hO => ?_)
  · have hOb : Off WB2 h3 (ah_w h4 1036 57 1) := Off_w (Off_mono (fun r i w => by rcases w with w | w; exact Or.inl (Or.inl w); exact Or.inl (Or.inr (Or.inl (by unfold LO; omega)))) hO) (by unfold WB2; omega)
    have hBb : BX kk pp (ah_w h4 1036 57 1) := BX_o hB (by omega)
    have hRb : SRg (stt (ah_w h4 1036 57 1)) := by
      rw [stt_o (by decide)]
      refine SRg_c hR (fun r i p q u => ?_)
      have : stt h4 r i = stt h3 r i := by
        unfold stt; rw [if_pos (by omega), if_pos (by omega)]; exact hO.2 _ _ (by unfold Wbt Wlx; omega)
      rw [this, hS3]; unfold zini; repeat rw [zw_o (by omega)]
    have e5 := hBb.2.1; have hk := hBb.2.2.2
    simp (disch := omega) only [b_236_58, ↓w_iconst, ↓w_aload_n_0, ↓w_getfield, ↓w_putfield_0, ↓w_iastore, ↓w_nop, ↓w_invokevirtual_0, stw_0, stw_i, stw_l, stw_r, ofK0, ofK1, ofK2, lst1, lst2, lkill, kont_none, kont_some, Int.reduceToNat, List.length_cons, List.length_nil, Nat.reduceAdd, Nat.reduceLeDiff, Nat.zero_le, true_and, and_true, if_true, if_false, ne_eq, Int.reduceEq, Int.reduceNeg, not_false_eq_true, not_true_eq_false, ↓reduceIte, Int.reduceLT, Int.reduceLE, and_self, or_true, true_or, or_false, false_or, false_and, and_false, ah_t_w, ah_m_w, ah_n_w, lst1_0, List.tail_cons, w32_i, zbd, lst2_0, mt_1036a hB.1, mt_1079a hB.1, mt_1079b hB.1, mf_52 hB.1, mt_1080a hB.1, mt_1080b hB.1, mf_53 hB.1]
    generalize ah_w h4 1036 57 1 = h5 at hOb hBb hRb e5
    simp (disch := omega) only [q_236_88, b_236_88, ↓w_iconst, ↓w_aload_n_0, ↓w_getfield, ↓w_goto, ↓w_if_icmp_eq, ↓w_ifCond_ne, ↓w_invokevirtual_0, stw_0, stw_i, stw_l, stw_r, ofK0, ofK1, ofK2, lst1, lst2, lkill, kont_none, kont_some, Int.reduceToNat, List.length_cons, List.length_nil, Nat.reduceAdd, Nat.reduceLeDiff, Nat.zero_le, true_and, and_true, if_true, if_false, ne_eq, Int.reduceEq, Int.reduceNeg, not_false_eq_true, not_true_eq_false, ↓reduceIte, Int.reduceLT, Int.reduceLE, and_self, or_true, true_or, or_false, false_or, false_and, and_false, ah_t_w, ah_m_w, ah_n_w, lst1_0, List.tail_cons, w32_i, zbd, lst2_0, mt_1036a hBb.1, e5, hk]
    exact bad110 h5 kk pp _ (by rw [e]; rfl) hBb hRb hOb
  · have hP := SP_t hR e
    rw [e] at bad110 hQ1
    have hOb : Off WB2 h3 (ah_w h4 1036 57 1) := Off_w (Off_mono (fun r i w => by rcases w with w | w; exact Or.inl (Or.inl w); exact Or.inl (Or.inr (Or.inl (by unfold LO; omega)))) hO) (by unfold WB2; omega)
    have hLb : LB t n k4 S4 1 (ah_w h4 1036 57 1) := ⟨LS_o hL (by omega), by rw [ah_m_w, if_pos ⟨rfl, rfl⟩], by rw [ah_m_w, if_neg (by omega), hO.2 _ _ (by unfold Wbt Wlx; omega), g3, hP.2]; exact a56⟩
    simp (disch := omega) only [b_236_58, ↓w_iconst, ↓w_aload_n_0, ↓w_getfield, ↓w_putfield_0, ↓w_iastore, ↓w_nop, ↓w_invokevirtual_0, stw_0, stw_i, stw_l, stw_r, ofK0, ofK1, ofK2, lst1, lst2, lkill, kont_none, kont_some, Int.reduceToNat, List.length_cons, List.length_nil, Nat.reduceAdd, Nat.reduceLeDiff, Nat.zero_le, true_and, and_true, if_true, if_false, ne_eq, Int.reduceEq, Int.reduceNeg, not_false_eq_true, not_true_eq_false, ↓reduceIte, Int.reduceLT, Int.reduceLE, and_self, or_true, true_or, or_false, false_or, false_and, and_false, ah_t_w, ah_m_w, ah_n_w, lst1_0, List.tail_cons, w32_i, zbd, lst2_0, mt_1036a hL.1.1, mt_1079a hL.1.1, mt_1079b hL.1.1, mf_52 hL.1.1, mt_1080a hL.1.1, mt_1080b hL.1.1, mf_53 hL.1.1]
    refine l_236_88 (h := ah_w h4 1036 57 1) (E := zbls t n 60 S4 1 k4) (fun h6 kk pp tl e6 hB6 hR6 hO6 => bad110 h6 kk pp _ e6 hB6 hR6 (Off_tr hOb hO6)) (fun h6 k6 c6 S6 tl e6 hB6 hP6 hO6 => ?_) 60 S4 1 k4 _ _ (by decide) (by decide) (by decide) hLb hP.1 rfl Off_rfl
    have hO6 := Off_tr hOb hO6
    have hX6 := hB6.1.1
    have m5 := hX6.2.2.2.2.1
    have m6 := hX6.2.2.2.2.2.1.2.2.2
    have hM6 := hX6.1
    simp (disch := omega) only [q_236_110, b_236_110, q_236_145, b_236_145, ↓w_iconst, ↓w_aload_n_0, ↓w_dup2, ↓w_iadd, ↓w_getfield, ↓w_putfield_0, ↓w_iaload, ↓w_iastore, ↓w_ifCond_eq, ↓w_ireturn0, ↓w_invokevirtual_0, stw_0, stw_i, stw_l, stw_r, ofK0, ofK1, ofK2, lst1, lst2, lkill, kont_none, kont_some, Int.reduceToNat, List.length_cons, List.length_nil, Nat.reduceAdd, Nat.reduceLeDiff, Nat.zero_le, true_and, and_true, if_true, if_false, ne_eq, Int.reduceEq, Int.reduceNeg, not_false_eq_true, not_true_eq_false, ↓reduceIte, Int.reduceLT, Int.reduceLE, and_self, or_true, true_or, or_false, false_or, false_and, and_false, ah_t_w, ah_m_w, ah_n_w, lst1_0, List.tail_cons, w32_i, zbd, lst2_0, mt_1036a hM6, mt_1038a hM6, mt_1038b hM6, mf_9 hM6, m5, m6]
    have hO7 : Off (fun r i => WBd r i ∧ r ≠ 1038) h (ah_w (ah_w h6 1036 7 0) 1036 8 (-1)) := Off_w (Off_w (n8 h6 hO6) (by unfold WBd; omega)) (by unfold WBd; omega)
    have o1 : ah_m (ah_w (ah_w h6 1036 7 0) 1036 8 (-1)) 1036 1 = 0 := by rw [ah_m_w, if_neg (by omega), ah_m_w, if_neg (by omega)]; exact n1 h6 hO6
    have o7 : ah_m (ah_w (ah_w h6 1036 7 0) 1036 8 (-1)) 1036 7 = 0 := by rw [ah_m_w, if_neg (by omega), ah_m_w, if_pos ⟨rfl, rfl⟩]
    have o8 : ah_m (ah_w (ah_w h6 1036 7 0) 1036 8 (-1)) 1036 8 = -1 := by rw [ah_m_w, if_pos ⟨rfl, rfl⟩]
    have o57 : ah_m (ah_w (ah_w h6 1036 7 0) 1036 8 (-1)) 1036 57 = c6 := by rw [ah_m_w, if_neg (by omega), ah_m_w, if_neg (by omega)]; exact hB6.2.1
    have o56 : ah_m (ah_w (ah_w h6 1036 7 0) 1036 8 (-1)) 1036 56 = zcdd S6 := by rw [ah_m_w, if_neg (by omega), ah_m_w, if_neg (by omega)]; exact hB6.2.2
    have o83 : ah_m (ah_w (ah_w h6 1036 7 0) 1036 8 (-1)) 1083 = ah_m h 1083 := Off_r hO7 (fun i w => by unfold WBd WB2 WR Wlx LO WZ WQ at w; omega)
    have hS7 : ST S6 (ah_w (ah_w h6 1036 7 0) 1036 8 (-1)) := ⟨MI_w (MI_w hM6 (by unfold fre; omega)) (by unfold fre; omega), by rw [stt_o (by decide), stt_o (by decide)]; exact hB6.1.2⟩
    generalize ah_w (ah_w h6 1036 7 0) 1036 8 (-1) = h7 at hO7 o1 o7 o8 o57 o56 o83 hS7
    have hcd : 0 ≤ zcdd S6 ∧ zcdd S6 ≤ 1600 := by
      unfold zcdd
      rcases hP6.2.2.2.2.2.2.2.2 with q | q
      · rw [if_pos q]; omega
      · rw [if_neg (by omega)]; exact q.2.1
    refine c_276 (d := d + 9) hS7 hP6.1 o56 hcd (fun h8 hS8 e83 s58 s84 s80 hO8 => ?_)
    have hM8 := hS8.1
    have p57 : ah_m h8 1036 57 = c6 := by rw [hO8.2 _ _ (by unfold WSt; omega)]; exact o57
    simp (disch := omega) only [b_236_145, ↓w_aload_n_0, ↓w_getfield, ↓w_ireturn0, ↓w_invokevirtual_0, stw_0, stw_i, stw_l, stw_r, ofK0, ofK1, ofK2, lst1, lst2, lkill, kont_none, kont_some, Int.reduceToNat, List.length_cons, List.length_nil, Nat.reduceAdd, Nat.reduceLeDiff, Nat.zero_le, true_and, and_true, if_true, if_false, ne_eq, Int.reduceEq, Int.reduceNeg, not_false_eq_true, not_true_eq_false, ↓reduceIte, Int.reduceLT, Int.reduceLE, and_self, or_true, true_or, or_false, false_or, false_and, and_false, ah_t_w, ah_m_w, ah_n_w, lst1_0, List.tail_cons, w32_i, zbd, lst2_0, mt_1036a hM8, p57]
    refine hQ1 h8 c6 S6 e6 hP6 hS8 (by rw [e83, o83]) s58 s84 s80 (Off_tr (Off_mono (fun r i w => Or.inl w) hO7) (Off_mono (fun r i w => Or.inr w) hO8)) ?_ ?_ ?_
    · rw [hO8.2 _ _ (by unfold WSt; omega)]; exact o1
    · rw [hO8.2 _ _ (by unfold WSt; omega)]; exact o7
    · rw [hO8.2 _ _ (by unfold WSt; omega)]; exact o8
end BRD7
