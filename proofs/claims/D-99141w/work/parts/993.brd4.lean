/-! ===== M: harm as told, statements (printed by gen_993.py) ===== -/
def zhst (S : Int → Int → Int) (c : List Int) : Int → Int → Int := fun r i => if r = 1080 ∧ i = 0 then 0 else if r = 1081 ∧ i = 0 then c.length else if r = 1082 ∧ 0 ≤ i ∧ i < c.length then zlf c i else S r i
def zhb (t : Int → Int) (n : Int) (S : Int → Int → Int) (k bg : Int) : (Int × Int) ⊕ (Int × (Int → Int → Int)) :=
  if S 1080 0 ≠ -1 then .inl (5, bg) else match zex true t n (zF n) 0 k 0 with
    | .inl e => .inl e
    | .inr (k1, c) => .inr (k1, zhst S c)
def zcdd (S : Int → Int → Int) : Int := if S 1080 0 = -1 then 0 else S 1081 0
def zstb (t : Int → Int) (n : Int) (S : Int → Int → Int) (k : Int) : (Int × Int) ⊕ (Int × (Int → Int → Int)) :=
  if zhw t n k [107, 105, 110, 100] = true then zkb t n S (k + 4) k else if zhw t n k [109, 97, 110] = true then zmb t n S (k + 3) k else if zhw t n k [102, 105, 101, 108, 100] = true then zfb2 t n S (k + 5) k else if zhw t n k [104, 97, 114, 109] = true then zhb t n S (k + 4) k
  else if zhw t n k [103, 114, 111, 119, 115] = true then zth (znum t n (k + 5) 0 99) fun q => .inr (q.1, zw S 1079 0 q.2)
  else zth (zask1 t n k [115, 108, 101, 101, 112, 121]) fun k2 => zth (znum t n k2 0 100) fun q => .inr (q.1, zw S 1079 1 q.2)
def zstm (t : Int → Int) (n : Int) (S : Int → Int → Int) (c k : Int) : (Int × Int) ⊕ (Int × (Int → Int → Int)) :=
  if c = 60 then .inl (5, k) else zth (zstb t n S k) fun r => zth (zsgn1 t n r.1 59) fun k' => .inr (k', r.2)
/-- M between statements: c of them are read -/
def LB (t : Int → Int) (n k : Int) (S : Int → Int → Int) (c : Int) (h : AH) : Prop := LSt t n k S h ∧ ah_m h 1036 57 = c ∧ ah_m h 1036 56 = zcdd S
def WFq (r i : Int) : Prop := WF r i ∨ WZ r i ∨ (r = 1036 ∧ (i = 59))
def WB2 (r i : Int) : Prop := WR r i ∨ WZ r i ∨ (r = 1036 ∧ (i = 56 ∨ i = 57 ∨ i = 59))
section BRD4
variable {d : Nat} {h h0 : AH} {Q : QQ} {x y z m k s l w a b c v n p r o lo hi bg : Int} {S : Int → Int → Int} {t : Int → Int} {cs : List Int}
set_option maxHeartbeats 4000000
theorem l_260 (hL : LSt t n k S h) (hC : Cods h cs) (e111 : ah_m h 1036 111 = cs.length) (hcl : (cs.length : Int) ≤ 1600) (hQ : ∀ h', ah_m h' 1036 56 = cs.length → (∀ i, ah_m h' 1082 i = if 0 ≤ i ∧ i < cs.length then zlf cs i else S 1082 i) → Off (fun r i => (r = 1082 ∧ 0 ≤ i ∧ i < 1600) ∨ (r = 1036 ∧ i = 56)) h h' → wpB (d + 7) 260 119 [some (.inr (.inr 1036)), some (.inl bg), some (.inl cs.length)] [] h' Q) :
    ∀ (j : Nat) (i : Nat) h', i + j = cs.length → ah_m h' 1036 56 = i → (∀ q, ah_m h' 1082 q = if 0 ≤ q ∧ q < i then zlf cs q else S 1082 q) → Off (fun r i => (r = 1082 ∧ 0 ≤ i ∧ i < 1600) ∨ (r = 1036 ∧ i = 56)) h h' → wpB (d + 7) 260 80 [some (.inr (.inr 1036)), some (.inl bg), some (.inl i)] [] h' Q := by
  intro j
  induction j with
  | zero =>
    intro i h' hi e56 hr hO
    have hM' : MI h' := MI_off hL.1.1 hO (fun r i w => by unfold fre; omega)
    have e111' : ah_m h' 1036 111 = cs.length := by rw [hO.2 _ _ (by omega)]; exact e111
    have ei : (i : Int) = cs.length := by omega
    have hlt : ¬ (i : Int) < cs.length := by omega
    simp (disch := omega) only [q_260_80, b_260_80, ↓w_iconst, ↓w_aload_n_0, ↓w_iload_n_2, ↓w_iinc_2, ↓w_dup_i, ↓w_dup_a, ↓w_iadd, ↓w_getfield, ↓w_putfield_0, ↓w_iaload, ↓w_iastore, ↓w_goto, ↓w_if_icmp_ge, stw_0, stw_i, stw_l, stw_r, ofK0, ofK1, ofK2, lst1, lst2, lkill, kont_none, kont_some, Int.reduceToNat, List.length_cons, List.length_nil, Nat.reduceAdd, Nat.reduceLeDiff, Nat.zero_le, true_and, and_true, if_true, if_false, ne_eq, Int.reduceEq, Int.reduceNeg, not_false_eq_true, not_true_eq_false, ↓reduceIte, Int.reduceLT, Int.reduceLE, and_self, or_true, true_or, or_false, false_or, false_and, and_false, ah_t_w, ah_m_w, ah_n_w, lst1_0, List.tail_cons, w32_i, zbd, lst2_0, mt_1036a hM', mt_1082a hM', mt_1082b hM', mf_55 hM', mt_1117a hM', mt_1117b hM', mf_110 hM', e111', hlt]
    rw [ei]
    exact hQ _ (by rw [e56, ei]) (by rw [ei] at hr; exact hr) hO
  | succ j ih =>
    intro i h' hi e56 hr hO
    have hM' : MI h' := MI_off hL.1.1 hO (fun r i w => by unfold fre; omega)
    have e111' : ah_m h' 1036 111 = cs.length := by rw [hO.2 _ _ (by omega)]; exact e111
    have hlt : (i : Int) < cs.length := by omega
    have ec : ah_m h' 1117 i = zlf cs i := by rw [hO.2 _ _ (by omega)]; exact hC i (by omega) hlt
    rw [q_260_80]
    simp (disch := omega) only [b_260_80, ↓w_iconst, ↓w_aload_n_0, ↓w_iload_n_2, ↓w_iinc_2, ↓w_dup_i, ↓w_dup_a, ↓w_iadd, ↓w_getfield, ↓w_putfield_0, ↓w_iaload, ↓w_iastore, ↓w_goto, ↓w_if_icmp_ge, stw_0, stw_i, stw_l, stw_r, ofK0, ofK1, ofK2, lst1, lst2, lkill, kont_none, kont_some, Int.reduceToNat, List.length_cons, List.length_nil, Nat.reduceAdd, Nat.reduceLeDiff, Nat.zero_le, true_and, and_true, if_true, if_false, ne_eq, Int.reduceEq, Int.reduceNeg, not_false_eq_true, not_true_eq_false, ↓reduceIte, Int.reduceLT, Int.reduceLE, and_self, or_true, true_or, or_false, false_or, false_and, and_false, ah_t_w, ah_m_w, ah_n_w, lst1_0, List.tail_cons, w32_i, zbd, lst2_0, mt_1036a hM', mt_1082a hM', mt_1082b hM', mf_55 hM', mt_1117a hM', mt_1117b hM', mf_110 hM', e111', hlt, e56, ec]
    refine ih (i + 1) _ (by omega) (by rw [ah_m_w, if_pos ⟨rfl, rfl⟩]; simp) (fun q => ?_) (Off_w (Off_w hO (by omega)) (by omega))
    rw [ah_m_w, if_neg (by omega), ah_m_w, hr q]
    by_cases e : q = i
    · rw [if_pos ⟨rfl, e⟩, if_pos (by omega), e]
    · rw [if_neg (fun z => e z.2)]
      by_cases e2 : 0 ≤ q ∧ q < (i : Int)
      · rw [if_pos e2, if_pos (by omega)]
      · rw [if_neg e2, if_neg (by omega)]
theorem c_260 (hL0 : LB t n k S c h)
    (hq0 : ∀ h' kk pp, zhb t n S k bg = .inl (kk, pp) → BX kk pp h' → ah_m h' 1036 57 = c → Off WFq h h' → Q (.inl none) h')
    (hq1 : ∀ h' k' S', zhb t n S k bg = .inr (k', S') → LB t n k' S' c h' → Off WB2 h h' → Q (.inl none) h') : wpC (d + 8) 260 [.inr (.inr 1036), .inl bg] h Q := by
  have hL := hL0.1
  have hX := hL.1
  have hM := hX.1
  have h5 := hX.2.2.2.2.1
  have hbk := hX.2.2.2.2.2.1
  have e80 := LS_r hL (r := 1080) (by decide)
  unfold zhb at hq0 hq1
  rw [wpC_B]; refine ⟨⟨Nat.zero_lt_succ _, Nat.le_of_ble_eq_true rfl⟩, ?_⟩; simp only [lent]
  by_cases g : S 1080 0 = -1
  · rw [if_neg (fun q => q g)] at hq0 hq1
    have e56 : ah_m h 1036 56 = 0 := by rw [hL0.2.2]; unfold zcdd; rw [if_pos g]
    simp (disch := omega) only [q_260_0, b_260_0, q_260_23, b_260_23, q_260_31, b_260_31, ↓w_iconst, ↓w_aload_n_0, ↓w_iload_n_1, ↓w_getfield, ↓w_putfield_0, ↓w_putfield_3, ↓w_iaload, ↓w_nop, ↓w_ifCond_eq, ↓w_if_icmp_eq, ↓w_ifCond_ne, ↓w_return, ↓w_invokevirtual_0, ↓w_invokevirtual_2, stw_0, stw_i, stw_l, stw_r, ofK0, ofK1, ofK2, lst1, lst2, lkill, kont_none, kont_some, Int.reduceToNat, List.length_cons, List.length_nil, Nat.reduceAdd, Nat.reduceLeDiff, Nat.zero_le, true_and, and_true, if_true, if_false, ne_eq, Int.reduceEq, Int.reduceNeg, not_false_eq_true, not_true_eq_false, ↓reduceIte, Int.reduceLT, Int.reduceLE, and_self, or_true, true_or, or_false, false_or, false_and, and_false, ah_t_w, ah_m_w, ah_n_w, lst1_0, List.tail_cons, w32_i, zbd, lst2_0, mt_1036a hM, mt_1080a hM, mt_1080b hM, mf_53 hM, h5, e80, g]
    generalize eh1 : ah_w (ah_w (ah_w (ah_w (ah_w h 1036 59 1) 1036 111 0) 1036 113 0) 1036 114 0) 1036 115 0 = h1
    have hO1q : Off WFq h h1 := by
      rw [← eh1]; refine Off_w (Off_w (Off_w (Off_w (Off_w Off_rfl ?_) ?_) ?_) ?_) ?_ <;> (unfold WFq WZ WQ; omega)
    have hO1 : Off WB2 h h1 := Off_mono (fun r i w => by rcases w with w | w | w; exact Or.inl (WF_R w); exact Or.inr (Or.inl w); exact Or.inr (Or.inr ⟨w.1, by omega⟩)) hO1q
    have hX1 : LX t n k h1 := by rw [← eh1]; exact LX_w (LX_w (LX_w (LX_w (LX_w hX (by omega)) (by omega)) (by omega)) (by omega)) (by omega)
    have hS1 : stt h1 = S := by rw [← eh1, stt_o (by omega), stt_o (by omega), stt_o (by omega), stt_o (by omega), stt_o (by omega)]; exact hL.2
    have f56 : ah_m h1 1036 56 = 0 := by rw [← eh1, ah_m_w, if_neg (by omega), ah_m_w, if_neg (by omega), ah_m_w, if_neg (by omega), ah_m_w, if_neg (by omega), ah_m_w, if_neg (by omega)]; exact e56
    have f57 : ah_m h1 1036 57 = c := by rw [← eh1, ah_m_w, if_neg (by omega), ah_m_w, if_neg (by omega), ah_m_w, if_neg (by omega), ah_m_w, if_neg (by omega), ah_m_w, if_neg (by omega)]; exact hL0.2.1
    have hZ1 : MZ true t n k [] [] 0 0 h1 := ⟨hX1, trivial, by rw [← eh1]; rfl, by rw [← eh1]; rfl, fun i a b => by simp at b; omega, by rw [← eh1]; rfl, by rw [← eh1]; rfl, by rw [← eh1]; rfl⟩
    refine c_261 hZ1 trivial (by simp; omega) (by omega) (fun h2 kk pp e hB _ hO2 => ?_) (fun h2 k1 c1 e hZ2 hO2 => ?_)
    · rw [e] at hq0
      have eb5 := hB.2.1; have hbk := hB.2.2.2
      simp (disch := omega) only [b_260_31, ↓w_iconst, ↓w_aload_n_0, ↓w_getfield, ↓w_putfield_0, ↓w_putfield_3, ↓w_ifCond_eq, ↓w_return, ↓w_invokevirtual_0, stw_0, stw_i, stw_l, stw_r, ofK0, ofK1, ofK2, lst1, lst2, lkill, kont_none, kont_some, Int.reduceToNat, List.length_cons, List.length_nil, Nat.reduceAdd, Nat.reduceLeDiff, Nat.zero_le, true_and, and_true, if_true, if_false, ne_eq, Int.reduceEq, Int.reduceNeg, not_false_eq_true, not_true_eq_false, ↓reduceIte, Int.reduceLT, Int.reduceLE, and_self, or_true, true_or, or_false, false_or, false_and, and_false, ah_t_w, ah_m_w, ah_n_w, lst1_0, List.tail_cons, w32_i, zbd, lst2_0, mt_1036a hB.1, eb5, hbk]
      exact hq0 h2 kk pp rfl hB (by rw [hO2.2 _ _ (by unfold WZ WQ; omega)]; exact f57) (Off_tr hO1q (Off_mono (fun r i w => Or.inr (Or.inl w)) hO2))
    · rw [e] at hq1
      simp only [List.nil_append] at hZ2
      have hpr := (zex_pr (hm := true) (t := t) (n := n) (zF n) 0 k 0 hbk.1 hbk.2.1 (by omega) (by omega)).1 k1 c1 e
      have hX2 := hZ2.1
      have h52 := hX2.2.2.2.2.1
      have hO2' : Off WB2 h h2 := Off_tr hO1 (Off_mono (fun r i w => Or.inr (Or.inl w)) hO2)
      have hL2 : LSt t n k1 S h2 := ⟨hX2, by rw [stt_off hO2 (fun r i w g => by unfold WZ WQ at w; omega)]; exact hS1⟩
      have g56 : ah_m h2 1036 56 = 0 := by rw [hO2.2 _ _ (by unfold WZ WQ; omega)]; exact f56
      have g57 : ah_m h2 1036 57 = c := by rw [hO2.2 _ _ (by unfold WZ WQ; omega)]; exact f57
      have hM2 := hX2.1
      simp (disch := omega) only [b_260_31, q_260_68, b_260_68, ↓w_iconst, ↓w_aload_n_0, ↓w_istore_n_2, ↓w_getfield, ↓w_putfield_0, ↓w_putfield_3, ↓w_iastore, ↓w_nop, ↓w_ifCond_eq, ↓w_return, ↓w_invokevirtual_0, stw_0, stw_i, stw_l, stw_r, ofK0, ofK1, ofK2, lst1, lst2, lkill, kont_none, kont_some, Int.reduceToNat, List.length_cons, List.length_nil, Nat.reduceAdd, Nat.reduceLeDiff, Nat.zero_le, true_and, and_true, if_true, if_false, ne_eq, Int.reduceEq, Int.reduceNeg, not_false_eq_true, not_true_eq_false, ↓reduceIte, Int.reduceLT, Int.reduceLE, and_self, or_true, true_or, or_false, false_or, false_and, and_false, ah_t_w, ah_m_w, ah_n_w, lst1_0, List.tail_cons, w32_i, zbd, lst2_0, mt_1036a hM2, mt_1080a hM2, mt_1080b hM2, mf_53 hM2, h52, g56]
      have hL3 : LSt t n k1 (zw S 1080 0 0) (ah_w h2 1080 0 0) := LS_w hL2 (by decide)
      refine l_260 hL3 (cs := c1) (Cods_w hZ2.2.2.2.2.1 (by omega)) (by rw [ah_m_w, if_neg (by omega)]; exact hZ2.2.2.2.2.2.1) (by omega) (fun h4 e4 hr4 hO4 => ?_) c1.length 0 _ (by omega) (by rw [ah_m_w, if_neg (by omega)]; exact g56) (fun q => by rw [if_neg (by omega), LS_r hL3 (r := 1082) (by decide)]) Off_rfl
      have hM4 : MI h4 := MI_off hL3.1.1 hO4 (fun r i w => by unfold fre; omega)
      simp (disch := omega) only [q_260_119, b_260_119, ↓w_iconst, ↓w_aload_n_0, ↓w_getfield, ↓w_iastore, ↓w_return, stw_0, stw_i, stw_l, stw_r, ofK0, ofK1, ofK2, lst1, lst2, lkill, kont_none, kont_some, Int.reduceToNat, List.length_cons, List.length_nil, Nat.reduceAdd, Nat.reduceLeDiff, Nat.zero_le, true_and, and_true, if_true, if_false, ne_eq, Int.reduceEq, Int.reduceNeg, not_false_eq_true, not_true_eq_false, ↓reduceIte, Int.reduceLT, Int.reduceLE, and_self, or_true, true_or, or_false, false_or, false_and, and_false, ah_t_w, ah_m_w, ah_n_w, lst1_0, List.tail_cons, w32_i, zbd, lst2_0, mt_1036a hM4, mt_1081a hM4, mt_1081b hM4, mf_54 hM4, e4]
      have hX4 : LX t n k1 h4 := by
        obtain ⟨_, b1, b2, b3, b4, b5, b6, b7⟩ := hL3.1
        refine ⟨hM4, by rw [Off_r hO4 (fun i w => by omega)]; exact b1, by rw [hO4.2 _ _ (by omega)]; exact b2, by rw [hO4.2 _ _ (by omega)]; exact b3, by rw [hO4.2 _ _ (by omega)]; exact b4, ⟨b5.1, b5.2.1, b5.2.2.1, by rw [hO4.2 _ _ (by omega)]; exact b5.2.2.2⟩, b6, by rw [hO4.2 _ _ (by omega)]; exact b7⟩
      refine hq1 _ k1 (zhst S c1) rfl ⟨⟨LX_wr hX4 (by omega), ?_⟩, ?_, ?_⟩ ?_
      · rw [stt_w (by decide)]
        funext r i
        unfold zw zhst
        by_cases q1 : r = 1081 ∧ i = 0
        · rw [if_pos q1, if_neg (by omega), if_pos q1]
        · rw [if_neg q1]
          by_cases q0 : r = 1080 ∧ i = 0
          · rw [if_pos q0]; unfold stt; rw [if_pos (by omega), hO4.2 _ _ (by omega), q0.1, q0.2]; rfl
          · rw [if_neg q0, if_neg q1]
            by_cases q2 : r = 1082
            · subst q2
              unfold stt; rw [if_pos (by omega), hr4 i]
              by_cases q3 : 0 ≤ i ∧ i < (c1.length : Int)
              · rw [if_pos q3, if_pos ⟨rfl, q3⟩]
              · rw [if_neg q3, if_neg (fun z => q3 z.2)]; unfold zw; rw [if_neg (by omega)]
            · rw [if_neg (fun z => q2 z.1)]
              unfold stt
              by_cases q4 : 1072 ≤ r ∧ r ≤ 1082
              · rw [if_pos q4, hO4.2 _ _ (by omega), ah_m_w, if_neg q0, LS_r hL2 q4]
              · rw [if_neg q4, ← hL2.2]; unfold stt; rw [if_neg q4]
      · rw [ah_m_w, if_neg (by omega), hO4.2 _ _ (by omega), ah_m_w, if_neg (by omega)]; exact g57
      · rw [ah_m_w, if_neg (by omega), e4]; unfold zcdd zhst; rw [if_neg (by simp)]; simp
      · refine Off_w (Off_tr (Off_w hO2' (by unfold WB2 WR LO; omega)) (Off_mono (fun r i w => by rcases w with w | w; exact Or.inl (Or.inr (Or.inl ⟨w.2.1, by omega⟩)); exact Or.inr (Or.inr ⟨w.1, by omega⟩)) hO4)) (by unfold WB2 WR LO; omega)
  · rw [if_pos g] at hq0
    simp (disch := omega) only [q_260_0, b_260_0, q_260_23, b_260_23, ↓w_iconst, ↓w_aload_n_0, ↓w_iload_n_1, ↓w_getfield, ↓w_iaload, ↓w_nop, ↓w_ifCond_eq, ↓w_if_icmp_eq, ↓w_ifCond_ne, ↓w_return, ↓w_invokevirtual_2, stw_0, stw_i, stw_l, stw_r, ofK0, ofK1, ofK2, lst1, lst2, lkill, kont_none, kont_some, Int.reduceToNat, List.length_cons, List.length_nil, Nat.reduceAdd, Nat.reduceLeDiff, Nat.zero_le, true_and, and_true, if_true, if_false, ne_eq, Int.reduceEq, Int.reduceNeg, not_false_eq_true, not_true_eq_false, ↓reduceIte, Int.reduceLT, Int.reduceLE, and_self, or_true, true_or, or_false, false_or, false_and, and_false, ah_t_w, ah_m_w, ah_n_w, lst1_0, List.tail_cons, w32_i, zbd, lst2_0, mt_1036a hM, mt_1080a hM, mt_1080b hM, mf_53 hM, h5, e80, g, c_243 hM h5]
    exact hq0 _ 5 bg rfl (BX_fail hM (by decide)) (by rw [ah_m_w, if_neg (by omega), ah_m_w, if_neg (by omega)]; exact hL0.2.1) (Off_w (Off_w Off_rfl (by unfold WFq WF Wlx; omega)) (by unfold WFq WF Wlx; omega))
end BRD4
